/-! the system's item: the machine's refusals caught -/
set_option maxRecDepth 100000
theorem narB (x : Int32) : vp_nar .byte x.toInt8.toInt32 = x.toInt8.toInt32 := by rw [vp_nar_byte, Int8.toInt8_toInt32]
theorem narS (x : Int32) : vp_nar .short x.toInt16.toInt32 = x.toInt16.toInt32 := by rw [vp_nar_short, Int16.toInt16_toInt32]
/-- an item laid in the row x of the sheet s -/
theorem RsW.lay {h : amH} {X : XS} (w : RsW h X) {s k x j : Nat} {vs : List Int64} (s4 : s < 4) (ho : X.2.2.2.2 s = some (k, vs)) (hx : h.2.2.2.1 (57 + s) 0 = some x) (hj : j < vs.length) (v : Int64) : rsFr h (amWr h x j (layV k v)) ∧ RsW (amWr h x j (layV k v)) (X.setSh s (some (k, vs.set j (cutL k v)))) := by
  have hs := w.2.2.2.2.2.2.2.1 s s4
  rw [ho] at hs
  obtain ⟨k4, v24, x', x1, x2, x3, x4, x5⟩ := hs
  obtain rfl : x = x' := by rw [hx] at x3; exact Option.some.inj x3
  have wn := w.1.2.2.2
  have e1 : (amWr h x j (layV k v)).1 = h.1 := amWr_sh _ _ _ _
  have e4 : (amWr h x j (layV k v)).2.2.2.1 = h.2.2.2.1 := by
    unfold layV
    split
    · rfl
    · split
      · rfl
      · split <;> rfl
  have en : (amWr h x j (layV k v)).2.2.2.2 = h.2.2.2.2 := amWr_n _ _ _ _
  have ene : ∀ i, i ≠ x → (amWr h x j (layV k v)).2.1 i = h.2.1 i ∧ (amWr h x j (layV k v)).2.2.1 i = h.2.2.1 i ∧ (amWr h x j (layV k v)).2.2.2.1 i = h.2.2.2.1 i := fun i hi => amWr_ne _ _ _ _ hi
  refine w.shw (fun i _ => by rw [e1]) (fun i hi => (ene i (by omega)).1) (fun i hi => (ene i (by omega)).2.1) (fun i _ _ => by rw [e4]) (by rw [en]; exact Nat.le_refl _) (w.2.2.2.2.2.2.2.put (s := s) ?_ (fun t _ _ => by rw [e4]) (by rw [en]; exact Nat.le_refl _) (fun t i ht hne hi _ => ?_) (fun t i ht hne hi => ?_))
  · refine ⟨k4, by rw [List.length_set]; exact v24, x, x1, by rw [en]; exact x2, by rw [e4]; exact hx, by rw [e1, x4, List.length_set], fun p hp => ?_⟩
    rw [List.length_set] at hp
    rw [setI_getD hj]
    have hp5 := x5 p hp
    match k, k4 with
    | 0, _ =>
      have hp5 : vs.getD p 0 = (h.2.1 x p).toInt64 := hp5
      show (if p = j then cutL 0 v else vs.getD p 0) = ((va_up h.2.1 x (va_up (h.2.1 x) j (vp_nar .byte v.toInt32.toInt8.toInt32))) x p).toInt64
      by_cases e : p = j
      · subst e; rw [if_pos rfl]; simp only [va_up, if_pos, narB]; rfl
      · rw [if_neg e]; simp only [va_up, if_pos, if_neg e]; exact hp5
    | 1, _ =>
      have hp5 : vs.getD p 0 = (h.2.1 x p).toInt64 := hp5
      show (if p = j then cutL 1 v else vs.getD p 0) = ((va_up h.2.1 x (va_up (h.2.1 x) j (vp_nar .short v.toInt32.toInt16.toInt32))) x p).toInt64
      by_cases e : p = j
      · subst e; rw [if_pos rfl]; simp only [va_up, if_pos, narS]; rfl
      · rw [if_neg e]; simp only [va_up, if_pos, if_neg e]; exact hp5
    | 2, _ =>
      have hp5 : vs.getD p 0 = (h.2.1 x p).toInt64 := hp5
      show (if p = j then cutL 2 v else vs.getD p 0) = ((va_up h.2.1 x (va_up (h.2.1 x) j v.toInt32)) x p).toInt64
      by_cases e : p = j
      · subst e; rw [if_pos rfl]; simp only [va_up, if_pos]; rfl
      · rw [if_neg e]; simp only [va_up, if_pos, if_neg e]; exact hp5
    | 3, _ =>
      have hp5 : vs.getD p 0 = h.2.2.1 x p := hp5
      show (if p = j then cutL 3 v else vs.getD p 0) = (va_up h.2.2.1 x (va_up (h.2.2.1 x) j v)) x p
      by_cases e : p = j
      · subst e; rw [if_pos rfl]; simp only [va_up, if_pos]; rfl
      · rw [if_neg e]; simp only [va_up, if_pos, if_neg e]; exact hp5
  · have hix : i ≠ x := fun e => hne (w.2.2.2.2.2.2.2.2 t s i ht s4 hi (by rw [e]; exact hx))
    exact ⟨by rw [e1], (ene i hix).1, (ene i hix).2.1⟩
  · rw [e4, hx]
    intro e
    exact hne (w.2.2.2.2.2.2.2.2 t s i ht s4 hi (by rw [hx]; exact e))
def tX0_item : amT := fun as h K => match as with
  | [.ref a, .int s0, .int lane, .int i, .long v] => ∃ X : XS, a = (24 : Nat) ∧ RsW h X ∧ ∀ h', rsFr h h' → RsW h' (itemR X s0 lane i v).1 → K (some (.int (itemR X s0 lane i v).2)) h'
  | _ => False
/-! ReadingStages.item(IIIJ)I -/
def kX0_item : Nat → Bool := fun pc => false
def rX0_item : List (Nat × amS) := [(2, 2, 0, 0, tX0_isSheet), (11, 1, 0, 0, amTget 0 24)]
def rxX0_item : List (Nat × amXS) := [(20, 4, 6, 832, (amRecvX 5 tX5_lay))]
def hdX0_item : List (Nat × Nat × Nat) := [(20, 1, 26), (20, 2, 31), (20, 3, 36)]
def eX0_item (retX : amXR) (ret : Option Value → amH → Nat → Nat → Prop) (F : amX) : Nat → amX := amWpX cX0_item kX0_item (amLkX rxX0_item) (amHd hdX0_item) (amLk rX0_item) (some .int) 6 832 retX ret F
def sX0_item (retX : amXR) (ret : Option Value → amH → Nat → Nat → Prop) (F : amX) : Nat → amX := amWsX cX0_item kX0_item (amLkX rxX0_item) (amHd hdX0_item) (amLk rX0_item) (some .int) 6 832 retX ret F
theorem hX0_item_20_1 {retX X ls q h k z} : amCat (amHd hdX0_item 20 1) retX X ls 1 q h k z = X 26 ls [.ref q] h k z := rfl
theorem hX0_item_20_2 {retX X ls q h k z} : amCat (amHd hdX0_item 20 2) retX X ls 2 q h k z = X 31 ls [.ref q] h k z := rfl
theorem hX0_item_20_3 {retX X ls q h k z} : amCat (amHd hdX0_item 20 3) retX X ls 3 q h k z = X 36 ls [.ref q] h k z := rfl
theorem evxX0_item (l : Launch) (G : amG) (hl : l.stackTraces = false) : ∀ pc S i sz, amLkX rxX0_item pc = some S → decode cX0_item pc = .ok (i, sz) → amSiteX pc G l yX0_item.cls yX0_item.name yX0_item.desc (amRm 10 6 832) i sz S.1 S.2.1 S.2.2.1 S.2.2.2 := amLkX_ok (by
  refine List.forall_mem_cons.mpr ⟨⟨_, _, dX0_item_20, amSiteVX (C := RX5) (metX5_lay l G hl) rfl (by decide) (by decide) (lw_V q1188 q1189 q1190 q93 q1191) ⟨_, rfl, rfl⟩ ⟨rfl, by decide +kernel, by decide +kernel, by decide +kernel⟩⟩, ?_⟩
  exact fun _ h => absurd h List.not_mem_nil)
theorem hkX0_item : ∀ q ∈ hdX0_item, amHdOk yX0_item.cls [(10, 23, 26, 469), (10, 23, 31, 471), (10, 23, 36, 473)] q := by
  refine List.forall_mem_cons.mpr ⟨⟨[], (10, 23, 26, 469), [(10, 23, 31, 471), (10, 23, 36, 473)], "java/lang/NullPointerException", rfl, fun _ h => absurd h List.not_mem_nil, by decide, by decide, q1218, List.mem_of_getElem? (i := 21) rfl, rfl⟩, ?_⟩
  refine List.forall_mem_cons.mpr ⟨⟨[(10, 23, 26, 469)], (10, 23, 31, 471), [(10, 23, 36, 473)], "java/lang/ClassCastException", rfl, List.forall_mem_cons.mpr ⟨⟨by decide, "java/lang/NullPointerException", q1218, by decide +kernel⟩, fun _ h => absurd h List.not_mem_nil⟩, by decide, by decide, q1237, List.mem_of_getElem? (i := 23) rfl, rfl⟩, ?_⟩
  refine List.forall_mem_cons.mpr ⟨⟨[(10, 23, 26, 469), (10, 23, 31, 471)], (10, 23, 36, 473), [], "java/lang/ArrayIndexOutOfBoundsException", rfl, List.forall_mem_cons.mpr ⟨⟨by decide, "java/lang/NullPointerException", q1218, by decide +kernel⟩, List.forall_mem_cons.mpr ⟨⟨by decide, "java/lang/ClassCastException", q1237, by decide +kernel⟩, fun _ h => absurd h List.not_mem_nil⟩⟩, by decide, by decide, q1251, List.mem_of_getElem? (i := 24) rfl, rfl⟩, ?_⟩
  exact fun _ h => absurd h List.not_mem_nil
theorem wX0_item_0 {ret F n h k z} {retX : amXR} {v0 v2 v3 v4 v5 v6 st x} : eX0_item retX ret F (n + 1) 0 [v0, .int x, v2, v3, v4, v5, v6] (st) h k z = (eX0_item retX ret F n 1 [v0, .int x, v2, v3, v4, v5, v6] (.int x :: st) h k z) := (amWpX_dec rfl rfl dX0_item_0 rfl).trans rfl
theorem uX0_item_0 {ret F n h k z} {retX : amXR} {v0 v2 v3 v4 v5 v6 st x} : sX0_item retX ret F n 0 [v0, .int x, v2, v3, v4, v5, v6] (st) h k z = (eX0_item retX ret F n 1 [v0, .int x, v2, v3, v4, v5, v6] (.int x :: st) h k z) := (amWsX_dec rfl dX0_item_0 rfl).trans rfl
theorem wX0_item_1 {ret F n h k z} {retX : amXR} {v0 v1 v3 v4 v5 v6 st x} : eX0_item retX ret F (n + 1) 1 [v0, v1, .int x, v3, v4, v5, v6] (st) h k z = (eX0_item retX ret F n 2 [v0, v1, .int x, v3, v4, v5, v6] (.int x :: st) h k z) := (amWpX_dec rfl rfl dX0_item_1 rfl).trans rfl
theorem wX0_item_2 {ret F n h k z} {retX : amXR} {v0 v1 v2 v3 v4 v5 v6 x1 x0} : eX0_item retX ret F (n + 1) 2 [v0, v1, v2, v3, v4, v5, v6] (.int x1 :: .int x0 :: []) h k z = (k + 0 ≤ 6 ∧ z + 0 ≤ 832 ∧ tX0_isSheet [.int x0, .int x1] h (fun v h => eX0_item retX ret F n 5 [v0, v1, v2, v3, v4, v5, v6] (v.toList ++ ([])) h (k + 0) (z + 0))) := (amWpX_dec rfl rfl dX0_item_2 rfl).trans (amS2 (Nat.le_of_ble_eq_true rfl) (Nat.le_of_ble_eq_true rfl))
theorem wX0_item_5 {ret F n h k z} {retX : amXR} {v0 v1 v2 v3 v4 v5 v6 st x} : eX0_item retX ret F (n + 1) 5 [v0, v1, v2, v3, v4, v5, v6] (.int x :: st) h k z = ((¬ x = 0 → eX0_item retX ret F n 10 [v0, v1, v2, v3, v4, v5, v6] (st) h k z) ∧ (x = 0 → eX0_item retX ret F n 8 [v0, v1, v2, v3, v4, v5, v6] (st) h k z)) := (amWpX_dec rfl rfl dX0_item_5 rfl).trans rfl
theorem wX0_item_8 {ret F n h k z} {retX : amXR} {v0 v1 v2 v3 v4 v5 v6 st} : eX0_item retX ret F (n + 1) 8 [v0, v1, v2, v3, v4, v5, v6] (st) h k z = (eX0_item retX ret F n 9 [v0, v1, v2, v3, v4, v5, v6] (.int (-1) :: st) h k z) := (amWpX_dec rfl rfl dX0_item_8 rfl).trans rfl
theorem wX0_item_9 {ret F n h k z} {retX : amXR} {v0 v1 v2 v3 v4 v5 v6 x} : eX0_item retX ret F (n + 1) 9 [v0, v1, v2, v3, v4, v5, v6] ([.int x]) h k z = (ret (some (.int x)) h k z) := (amWpX_dec rfl rfl dX0_item_9 rfl).trans (amTrue ⟨_, rfl, rfl⟩)
theorem wX0_item_10 {ret F n h k z} {retX : amXR} {v0 v1 v2 v3 v4 v5 v6 st} : eX0_item retX ret F (n + 1) 10 [v0, v1, v2, v3, v4, v5, v6] (st) h k z = (amIsR v0 ∧ eX0_item retX ret F n 11 [v0, v1, v2, v3, v4, v5, v6] (v0 :: st) h k z) := (amWpX_dec rfl rfl dX0_item_10 rfl).trans rfl
theorem wX0_item_11 {ret F n h k z} {retX : amXR} {v0 v1 v2 v3 v4 v5 v6 a} : eX0_item retX ret F (n + 1) 11 [v0, v1, v2, v3, v4, v5, v6] (.ref a :: []) h k z = (k + 0 ≤ 6 ∧ z + 0 ≤ 832 ∧ h.1 a = (0, 0) ∧ eX0_item retX ret F n 14 [v0, v1, v2, v3, v4, v5, v6] (va_rf (h.2.2.2.1 a 24) :: []) h (k + 0) (z + 0)) := (amWpX_dec rfl rfl dX0_item_11 rfl).trans (amS2 (Nat.le_of_ble_eq_true rfl) (Nat.le_of_ble_eq_true rfl))
theorem wX0_item_14 {ret F n h k z} {retX : amXR} {v0 v2 v3 v4 v5 v6 st x} : eX0_item retX ret F (n + 1) 14 [v0, .int x, v2, v3, v4, v5, v6] (st) h k z = (eX0_item retX ret F n 15 [v0, .int x, v2, v3, v4, v5, v6] (.int x :: st) h k z) := (amWpX_dec rfl rfl dX0_item_14 rfl).trans rfl
theorem wX0_item_15 {ret F n h k z} {retX : amXR} {v0 v1 v2 v3 v4 v5 v6 st x a} : eX0_item retX ret F (n + 1) 15 [v0, v1, v2, v3, v4, v5, v6] (.int x :: .ref a :: st) h k z = (6 ≤ (h.1 a).1 ∧ (h.1 a).1 ≤ 8 ∧ vp_in x (h.1 a).2 ∧ eX0_item retX ret F n 16 [v0, v1, v2, v3, v4, v5, v6] (va_rf (h.2.2.2.1 a x.toNatClampNeg) :: st) h k z) := (amWpX_dec rfl rfl dX0_item_15 rfl).trans rfl
theorem wX0_item_16 {ret F n h k z} {retX : amXR} {v0 v1 v3 v4 v5 v6 st x} : eX0_item retX ret F (n + 1) 16 [v0, v1, .int x, v3, v4, v5, v6] (st) h k z = (eX0_item retX ret F n 17 [v0, v1, .int x, v3, v4, v5, v6] (.int x :: st) h k z) := (amWpX_dec rfl rfl dX0_item_16 rfl).trans rfl
theorem wX0_item_17 {ret F n h k z} {retX : amXR} {v0 v1 v2 v4 v5 v6 st x} : eX0_item retX ret F (n + 1) 17 [v0, v1, v2, .int x, v4, v5, v6] (st) h k z = (eX0_item retX ret F n 18 [v0, v1, v2, .int x, v4, v5, v6] (.int x :: st) h k z) := (amWpX_dec rfl rfl dX0_item_17 rfl).trans rfl
theorem wX0_item_18 {ret F n h k z} {retX : amXR} {v0 v1 v2 v3 v5 v6 st y} : eX0_item retX ret F (n + 1) 18 [v0, v1, v2, v3, .long y, v5, v6] (st) h k z = (eX0_item retX ret F n 20 [v0, v1, v2, v3, .long y, v5, v6] (.long y :: st) h k z) := (amWpX_dec rfl rfl dX0_item_18 rfl).trans rfl
theorem wX0_item_20 {ret F n h k z} {retX : amXR} {v0 v1 v2 v3 v4 v5 v6 x3 x2 x1 x0} : eX0_item retX ret F (n + 1) 20 [v0, v1, v2, v3, v4, v5, v6] (.long x3 :: .int x2 :: .int x1 :: .ref x0 :: []) h k z = (k + 6 ≤ 6 ∧ z + 832 ≤ 832 ∧ h.1 x0 = (0, 5) ∧ tX5_lay [.ref x0, .int x1, .int x2, .long x3] h (fun v h => eX0_item retX ret F n 23 [v0, v1, v2, v3, v4, v5, v6] (v.toList ++ ([])) h (k + 6) (z + 832)) (fun ex q h => amCat (amHd hdX0_item 20 ex) retX (eX0_item retX ret F n) [v0, v1, v2, v3, v4, v5, v6] ex q h (k + 6) (z + 832))) := (amWpX_thr rfl rfl dX0_item_20 rfl).trans (amS2 (Nat.le_of_ble_eq_true rfl) (Nat.le_of_ble_eq_true rfl))
theorem wX0_item_23 {ret F n h k z} {retX : amXR} {v0 v1 v2 v3 v4 v5 v6 st} : eX0_item retX ret F (n + 1) 23 [v0, v1, v2, v3, v4, v5, v6] (st) h k z = (eX0_item retX ret F n 41 [v0, v1, v2, v3, v4, v5, v6] (st) h k z) := (amWpX_dec rfl rfl dX0_item_23 rfl).trans rfl
theorem wX0_item_26 {ret F n h k z} {retX : amXR} {v0 v1 v2 v3 v4 v5 v6 w st} : eX0_item retX ret F (n + 1) 26 [v0, v1, v2, v3, v4, v5, v6] (w :: st) h k z = (amIsR w ∧ eX0_item retX ret F n 28 [v0, v1, v2, v3, v4, amClr v5, w] (st) h k z) := (amWpX_dec rfl rfl dX0_item_26 rfl).trans (amTrue2 (Nat.le_of_ble_eq_true rfl))
theorem wX0_item_28 {ret F n h k z} {retX : amXR} {v0 v1 v2 v3 v4 v5 v6 st} : eX0_item retX ret F (n + 1) 28 [v0, v1, v2, v3, v4, v5, v6] (st) h k z = (eX0_item retX ret F n 30 [v0, v1, v2, v3, v4, v5, v6] (.int (-11) :: st) h k z) := (amWpX_dec rfl rfl dX0_item_28 rfl).trans rfl
theorem wX0_item_30 {ret F n h k z} {retX : amXR} {v0 v1 v2 v3 v4 v5 v6 x} : eX0_item retX ret F (n + 1) 30 [v0, v1, v2, v3, v4, v5, v6] ([.int x]) h k z = (ret (some (.int x)) h k z) := (amWpX_dec rfl rfl dX0_item_30 rfl).trans (amTrue ⟨_, rfl, rfl⟩)
theorem wX0_item_31 {ret F n h k z} {retX : amXR} {v0 v1 v2 v3 v4 v5 v6 w st} : eX0_item retX ret F (n + 1) 31 [v0, v1, v2, v3, v4, v5, v6] (w :: st) h k z = (amIsR w ∧ eX0_item retX ret F n 33 [v0, v1, v2, v3, v4, amClr v5, w] (st) h k z) := (amWpX_dec rfl rfl dX0_item_31 rfl).trans (amTrue2 (Nat.le_of_ble_eq_true rfl))
theorem wX0_item_33 {ret F n h k z} {retX : amXR} {v0 v1 v2 v3 v4 v5 v6 st} : eX0_item retX ret F (n + 1) 33 [v0, v1, v2, v3, v4, v5, v6] (st) h k z = (eX0_item retX ret F n 35 [v0, v1, v2, v3, v4, v5, v6] (.int (-12) :: st) h k z) := (amWpX_dec rfl rfl dX0_item_33 rfl).trans rfl
theorem wX0_item_35 {ret F n h k z} {retX : amXR} {v0 v1 v2 v3 v4 v5 v6 x} : eX0_item retX ret F (n + 1) 35 [v0, v1, v2, v3, v4, v5, v6] ([.int x]) h k z = (ret (some (.int x)) h k z) := (amWpX_dec rfl rfl dX0_item_35 rfl).trans (amTrue ⟨_, rfl, rfl⟩)
theorem wX0_item_36 {ret F n h k z} {retX : amXR} {v0 v1 v2 v3 v4 v5 v6 w st} : eX0_item retX ret F (n + 1) 36 [v0, v1, v2, v3, v4, v5, v6] (w :: st) h k z = (amIsR w ∧ eX0_item retX ret F n 38 [v0, v1, v2, v3, v4, amClr v5, w] (st) h k z) := (amWpX_dec rfl rfl dX0_item_36 rfl).trans (amTrue2 (Nat.le_of_ble_eq_true rfl))
theorem wX0_item_38 {ret F n h k z} {retX : amXR} {v0 v1 v2 v3 v4 v5 v6 st} : eX0_item retX ret F (n + 1) 38 [v0, v1, v2, v3, v4, v5, v6] (st) h k z = (eX0_item retX ret F n 40 [v0, v1, v2, v3, v4, v5, v6] (.int (-13) :: st) h k z) := (amWpX_dec rfl rfl dX0_item_38 rfl).trans rfl
theorem wX0_item_40 {ret F n h k z} {retX : amXR} {v0 v1 v2 v3 v4 v5 v6 x} : eX0_item retX ret F (n + 1) 40 [v0, v1, v2, v3, v4, v5, v6] ([.int x]) h k z = (ret (some (.int x)) h k z) := (amWpX_dec rfl rfl dX0_item_40 rfl).trans (amTrue ⟨_, rfl, rfl⟩)
theorem wX0_item_41 {ret F n h k z} {retX : amXR} {v0 v1 v2 v3 v4 v5 v6 st} : eX0_item retX ret F (n + 1) 41 [v0, v1, v2, v3, v4, v5, v6] (st) h k z = (eX0_item retX ret F n 42 [v0, v1, v2, v3, v4, v5, v6] (.int (nI 1) :: st) h k z) := (amWpX_dec rfl rfl dX0_item_41 rfl).trans rfl
theorem wX0_item_42 {ret F n h k z} {retX : amXR} {v0 v1 v2 v3 v4 v5 v6 x} : eX0_item retX ret F (n + 1) 42 [v0, v1, v2, v3, v4, v5, v6] ([.int x]) h k z = (ret (some (.int x)) h k z) := (amWpX_dec rfl rfl dX0_item_42 rfl).trans (amTrue ⟨_, rfl, rfl⟩)
theorem evX0_item (l : Launch) (G : amG) (hl : l.stackTraces = false) : ∀ pc S i sz, amLk rX0_item pc = some S → decode cX0_item pc = .ok (i, sz) → amSiteP pc G l yX0_item.cls yX0_item.name yX0_item.desc (amRm 10 6 832) i sz S.1 S.2.1 S.2.2.1 S.2.2.2 := amLk_ok (by
  refine List.forall_mem_cons.mpr ⟨⟨_, _, dX0_item_2, amSite.P (amSiteS (metX0_isSheet l G) rfl (by decide) (by decide) (lw_S q1157 q1158 q86 q1159) ⟨by decide +kernel, by decide +kernel, by decide +kernel⟩)⟩, ?_⟩
  refine List.forall_mem_cons.mpr ⟨⟨_, _, dX0_item_11, amSite.P (amSiteGet ⟨_, rfl, by decide, Or.inl q325⟩)⟩, ?_⟩
  exact fun _ h => absurd h List.not_mem_nil)
theorem goX0_item {retX ret F} (hF : amCldX cX0_item kX0_item (amLkX rxX0_item) (amHd hdX0_item) (amLk rX0_item) (some .int) 6 832 retX ret F) (n : Nat) {pc ls st h k z} (q : sX0_item retX ret F n pc ls st h k z) : F pc ls st h k z := hF.1 n pc ls st h k z q
theorem metX0_item (l : Launch) (G : amG) (hl : l.stackTraces = false) : amMet l G yX0_item (wsW_ yX0_item cX0_item 7 (some .int) [(10, 23, 26, 469), (10, 23, 31, 471), (10, 23, 36, 473)]) 10 6 832 tX0_item := by
  refine amMetH_of (cut := kX0_item) (by decide +kernel) (evX0_item l G hl) (evxX0_item l G hl) q1217 hkX0_item ?_
  intro as h K hT
  match as, hT with
  | [.ref a, .int s0, .int lane, .int i, .long v], ⟨X, e1, w, hK⟩ =>
  refine ⟨Nat.le_of_ble_eq_true rfl, fun F hF => ?_⟩
  show F 0 [.ref a, .int s0, .int lane, .int i, .long v, .retAddr 0, .retAddr 0] [] h 0 0
  obtain ⟨a, rfl⟩ : ∃ i : Nat, i = a := ⟨_, rfl⟩
  subst e1
  have hR := w.1.1
  by_cases ok : okS s0 lane
  · obtain ⟨s, s4, rfl⟩ := in3.mp ok.1
    obtain ⟨k, k4, rfl⟩ := in3.mp ok.2
    obtain ⟨b1, b2, b3, b4, b5⟩ := hR.sheet s4
    have ec : (nI s).toNatClampNeg = s := amCl_nI (by omega)
    have hs := w.2.2.2.2.2.2.2.1 s s4
    cases ho : X.2.2.2.2 s with
    | none =>
      rw [itemR, if_neg (fun z => z ok), ec, ho, if_pos (show lackR none (nI k) i 1 < 0 from (by decide : (-11 : Int32) < 0))] at hK
      rw [ho] at hs
      have hs : h.2.2.2.1 (57 + s) 0 = none := hs
      have key : ∀ d, amRet 6 832 K (some (.int (-11))) (amMore h d) 6 832 := fun d => amRet.of (by decide) (by decide) (hK _ (w.more d).1 (w.more d).2)
      refine goX0_item hF 60 ?_
      simp (disch := omega) only [wX0_item_0, uX0_item_0, wX0_item_1, wX0_item_2, wX0_item_5, wX0_item_8, wX0_item_9, wX0_item_10, wX0_item_11, wX0_item_14, wX0_item_15, wX0_item_16, wX0_item_17, wX0_item_18, wX0_item_20, wX0_item_23, wX0_item_26, wX0_item_28, wX0_item_30, wX0_item_31, wX0_item_33, wX0_item_35, wX0_item_36, wX0_item_38, wX0_item_40, wX0_item_41, wX0_item_42, hX0_item_20_1, hX0_item_20_2, hX0_item_20_3, amSI_1, amSI_2, amSI_3, amSI_s, amU_at, amIsR_ref, amIsR_null, amIsR_rf, amRf_some, amRf_none, amClr_int, amClr_ref, amClr_null, amClr_long, amClr_ra, amClr_rf, amFit_int, amFit_oref, amFit_aref, amFit_onull, amFit_anull, amOptSome, amOptNone, List.cons_append, List.nil_append, true_and, and_true, true_implies, not_true_eq_false, not_false_eq_true, false_implies, and_self, Nat.add_zero, Nat.zero_add, ne_eq, Prod.mk.injEq, amC01_0, amC01_1, amC01_nb, amNb0, amNb1, amTcpI_d, Nat.reduceLeDiff, Nat.reduceAdd, Nat.reduceSub, Nat.reduceEqDiff, Nat.le_refl, amN0le, hR.s, hR.r, b4, b5, amLeI, amLtI, amEqI, amLe0, amGt0, amEq0, amNotPosI, amGe0, amVI, amCl_nI, amAdd, amSub, amMul, tX0_isSheet_d, ok, tX5_lay_d, hs]
      exact ⟨fun _ => ⟨k, rfl, k4, fun _ d => key d, fun a ha => by cases ha⟩, fun z => absurd ok z⟩
    | some o =>
      obtain ⟨k', vs⟩ := o
      rw [itemR, if_neg (fun z => z ok), ec, ho] at hK
      rw [ho] at hs
      obtain ⟨k4', v24, x, x1, x2, x3, x4, x5⟩ := hs
      have e1 : (h.1 x).1 = laneK k' := by rw [x4]
      have e2 : (h.1 x).2 = vs.length := by rw [x4]
      have e : lackR (some (k', vs)) (nI k) i 1 = if ¬ nI k' = nI k then -12 else if i < 0 then -13 else if vs.length < i.toNatClampNeg + 1 then -13 else 0 := rfl
      refine goX0_item hF 60 ?_
      simp (disch := omega) only [wX0_item_0, uX0_item_0, wX0_item_1, wX0_item_2, wX0_item_5, wX0_item_8, wX0_item_9, wX0_item_10, wX0_item_11, wX0_item_14, wX0_item_15, wX0_item_16, wX0_item_17, wX0_item_18, wX0_item_20, wX0_item_23, wX0_item_26, wX0_item_28, wX0_item_30, wX0_item_31, wX0_item_33, wX0_item_35, wX0_item_36, wX0_item_38, wX0_item_40, wX0_item_41, wX0_item_42, hX0_item_20_1, hX0_item_20_2, hX0_item_20_3, amSI_1, amSI_2, amSI_3, amSI_s, amU_at, amIsR_ref, amIsR_null, amIsR_rf, amRf_some, amRf_none, amClr_int, amClr_ref, amClr_null, amClr_long, amClr_ra, amClr_rf, amFit_int, amFit_oref, amFit_aref, amFit_onull, amFit_anull, amOptSome, amOptNone, List.cons_append, List.nil_append, true_and, and_true, true_implies, not_true_eq_false, not_false_eq_true, false_implies, and_self, Nat.add_zero, Nat.zero_add, ne_eq, Prod.mk.injEq, amC01_0, amC01_1, amC01_nb, amNb0, amNb1, amTcpI_d, Nat.reduceLeDiff, Nat.reduceAdd, Nat.reduceSub, Nat.reduceEqDiff, Nat.le_refl, amN0le, hR.s, hR.r, b4, b5, amLeI, amLtI, amEqI, amLe0, amGt0, amEq0, amNotPosI, amGe0, amVI, amCl_nI, amAdd, amSub, amMul, tX0_isSheet_d, ok, tX5_lay_d, x3]
      have neg : ∀ c : Int32, lackR (some (k', vs)) (nI k) i 1 = c → c < 0 → ∀ d, amRet 6 832 K (some (.int c)) (amMore h d) 6 832 := fun c ec1 ec2 d => by
        rw [if_pos (by rw [ec1]; exact ec2), ec1] at hK
        exact amRet.of (by decide) (by decide) (hK _ (w.more d).1 (w.more d).2)
      refine ⟨fun _ => ⟨k, rfl, k4, fun z => (by cases z), fun a ha => ?_⟩, fun z => absurd ok z⟩
      cases ha
      refine ⟨by rw [e1]; exact (laneKA k4').1, by rw [e2]; omega, (show 24 ≤ x by omega), fun z q d => ?_, fun z => ⟨fun r => ?_, fun r q d => ?_⟩⟩
      · exact neg (-12) (by rw [e, if_pos (fun y => z (by rw [e1, (nI_eq (by omega) (by omega)).mp y]))]) (by decide) d
      · obtain rfl := laneK_inj k4' k4 (e1.symm.trans z)
        rw [e2] at r
        have r1 : ¬ i < 0 := fun y => r (Or.inl y)
        have r2 : ¬ vs.length ≤ i.toNatClampNeg := fun y => r (Or.inr y)
        have l0 : lackR (some (k', vs)) (nI k') i 1 = 0 := by rw [e, if_neg (fun y => y rfl), if_neg r1, if_neg (by omega)]
        rw [if_neg (by rw [l0]; decide)] at hK
        have key := hK _ (w.lay (v := v) s4 ho x3 (show i.toNatClampNeg < vs.length by omega)).1 (w.lay (v := v) s4 ho x3 (show i.toNatClampNeg < vs.length by omega)).2
        exact amRet.of (by decide) (by decide) key
      · obtain rfl := laneK_inj k4' k4 (e1.symm.trans z)
        refine neg (-13) ?_ (by decide) d
        rw [e, if_neg (fun y => y rfl)]
        by_cases r1 : i < 0
        · rw [if_pos r1]
        · rw [if_neg r1, if_pos]
          have : vs.length ≤ i.toNatClampNeg := Classical.byContradiction fun y => r (by rw [e2]; intro y2; rcases y2 with y2 | y2; exact r1 y2; exact y y2)
          omega
  · rw [itemR, if_pos ok] at hK
    have key := hK h (rsFr.rf h) w
    refine goX0_item hF 60 ?_
    simp (disch := omega) only [wX0_item_0, uX0_item_0, wX0_item_1, wX0_item_2, wX0_item_5, wX0_item_8, wX0_item_9, wX0_item_10, wX0_item_11, wX0_item_14, wX0_item_15, wX0_item_16, wX0_item_17, wX0_item_18, wX0_item_20, wX0_item_23, wX0_item_26, wX0_item_28, wX0_item_30, wX0_item_31, wX0_item_33, wX0_item_35, wX0_item_36, wX0_item_38, wX0_item_40, wX0_item_41, wX0_item_42, hX0_item_20_1, hX0_item_20_2, hX0_item_20_3, amSI_1, amSI_2, amSI_3, amSI_s, amU_at, amIsR_ref, amIsR_null, amIsR_rf, amRf_some, amRf_none, amClr_int, amClr_ref, amClr_null, amClr_long, amClr_ra, amClr_rf, amFit_int, amFit_oref, amFit_aref, amFit_onull, amFit_anull, amOptSome, amOptNone, List.cons_append, List.nil_append, true_and, and_true, true_implies, not_true_eq_false, not_false_eq_true, false_implies, and_self, Nat.add_zero, Nat.zero_add, ne_eq, Prod.mk.injEq, amC01_0, amC01_1, amC01_nb, amNb0, amNb1, amTcpI_d, Nat.reduceLeDiff, Nat.reduceAdd, Nat.reduceSub, Nat.reduceEqDiff, Nat.le_refl, amN0le, hR.s, hR.r, tX0_isSheet_d, ok]
    exact amRet.of (by decide) (by decide) key
theorem tX0_item_d {a : Nat} {s0 lane i : Int32} {v : Int64} {h : amH} {K : Option Value → amH → Prop} : tX0_item [.ref a, .int s0, .int lane, .int i, .long v] h K = ∃ X : XS, a = (24 : Nat) ∧ RsW h X ∧ ∀ h', rsFr h h' → RsW h' (itemR X s0 lane i v).1 → K (some (.int (itemR X s0 lane i v).2)) h' := rfl
