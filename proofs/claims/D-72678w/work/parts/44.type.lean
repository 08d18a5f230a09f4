/-! a letter typed -/
set_option maxRecDepth 100000
theorem chr1 : ∀ c, c < 128 → ((nI c).toUInt32 % 65536).toInt32 = nI c := by decide +kernel
theorem chr2 : ∀ c, c < 128 → (nI c).toUInt32.toUInt16.toUInt32.toInt32 = nI c := by decide +kernel
theorem amChr (c : Nat) (h : c < 128) : ((nI c).toUInt32 % 65536).toInt32 = nI c := chr1 c h
theorem amChrN (c : Nat) (h : c < 128) : vp_nar .char (nI c) = nI c := by rw [vp_nar_char]; exact chr2 c h
def typeR (X : XS) (x : Int32) : XS × Int32 := if ¬ (lN 32 ≤ x.toInt64 ∧ x.toInt64 ≤ lN 126) then (X, -1) else if X.2.2.2.1.length = 90 then (X, -3) else ((X.1, X.2.1, X.2.2.1, X.2.2.2.1 ++ [x.toNatClampNeg], X.2.2.2.2), nI (X.2.2.2.1.length + 1))
/-- the tape changed -/
theorem RsW.tap {h : amH} {X : XS} (w : RsW h X) {m : Nat → Nat → Int32} (f : ∀ i : Nat, i ≠ 43 → i ≠ 44 → (i ≠ 24) → (i < 45 ∨ 50 ≤ i) → m i = h.2.1 i) (g : ∀ j : Nat, j ≠ 18 → m 24 j = h.2.1 24 j) {t : List Nat} (ht : TpIs m t) : rsFr h (amSI h m) ∧ RsW (amSI h m) (X.1, X.2.1, X.2.2.1, t, X.2.2.2.2) := by
  obtain ⟨⟨w1, w2, w3, w4⟩, w5, w6, w7, w8, w9, w10, w11⟩ := w
  refine ⟨⟨Nat.le_refl _, fun i h1 h2 => ⟨rfl, f i (by omega) (by omega) (by omega) (by omega), rfl, rfl⟩⟩, ⟨w1, w2.kept (fun i h1 h2 => f i (by omega) (by omega) (by omega) (by omega)), w3, w4⟩, w5, w6, w7.mv (g 15 (by decide)) rfl (fun i hi => by unfold pastC at hi; exact f i (by omega) (by omega) (by omega) (by omega)), w8, ?_, ht, w11.mv (fun _ _ => rfl) (Nat.le_refl _) (fun i h1 h2 => ⟨rfl, f i (by omega) (by omega) (by omega) (by omega), rfl⟩)⟩
  show KpIs m X.2.2.1
  cases hc : X.2.2.1 with
  | none =>
    rw [hc] at w9
    show m 24 23 = nI 0
    rw [g 23 (by decide)]; exact w9
  | some v =>
    obtain ⟨S, U⟩ := v
    rw [hc] at w9
    obtain ⟨q1, q2, q3, q4, q5, q6, q7⟩ := w9
    refine ⟨?_, ?_, q3, q4, ?_, fun k hk => ?_, q7⟩
    · rw [g 23 (by decide)]; exact q1
    · exact q2.kept (fun i h1 h2 => f i (by omega) (by omega) (by omega) (by omega))
    · rw [g 22 (by decide)]; exact q5
    · exact (q6 k hk).kept (fun i h1 h2 => f i (by omega) (by omega) (by omega) (by omega))
def tX0_type : amT := fun as h K => match as with
  | [.ref a, .int x] => ∃ X : XS, a = (24 : Nat) ∧ RsW h X ∧ ∀ h', rsFr h h' → RsW h' (typeR X x).1 → K (some (.int (typeR X x).2)) h'
  | _ => False
/-! ReadingStages.type(I)I -/
def kX0_type : Nat → Bool := fun pc => false
def rX0_type : List (Nat × amS) := [(2, 0, 0, 0, amTcon (.long (32))), (5, 0, 0, 0, amTcon (.long (126))), (8, 3, 0, 0, tX0_isIn), (17, 1, 0, 0, amTget 0 17), (20, 1, 0, 0, amTget 4 1), (32, 1, 0, 0, amTget 0 17), (35, 1, 0, 0, amTget 4 0), (39, 1, 0, 0, amTget 0 17), (42, 1, 0, 0, amTget 4 1), (49, 1, 0, 0, amTget 0 17), (53, 1, 0, 0, amTget 4 1), (58, 2, 0, 0, amTput 4 1), (62, 1, 0, 0, amTget 0 17), (65, 1, 0, 0, amTget 4 1)]
def eX0_type (ret : Option Value → amH → Nat → Nat → Prop) (F : amX) : Nat → amX := amWp cX0_type kX0_type (amLk rX0_type) (some .int) 0 0 ret F
def sX0_type (ret : Option Value → amH → Nat → Nat → Prop) (F : amX) : Nat → amX := amWs cX0_type kX0_type (amLk rX0_type) (some .int) 0 0 ret F
theorem wX0_type_0 {ret F n h} {v0 st x} : eX0_type ret F (n + 1) 0 [v0, .int x] (st) h 0 0 = (eX0_type ret F n 1 [v0, .int x] (.int x :: st) h 0 0) := (amWp_dec rfl dX0_type_0 rfl).trans rfl
theorem uX0_type_0 {ret F n h} {v0 st x} : sX0_type ret F n 0 [v0, .int x] (st) h 0 0 = (eX0_type ret F n 1 [v0, .int x] (.int x :: st) h 0 0) := (amWs_dec dX0_type_0 rfl).trans rfl
theorem wX0_type_1 {ret F n h} {v0 v1 st x} : eX0_type ret F (n + 1) 1 [v0, v1] (.int x :: st) h 0 0 = (eX0_type ret F n 2 [v0, v1] (.long x.toInt64 :: st) h 0 0) := (amWp_dec rfl dX0_type_1 rfl).trans rfl
theorem wX0_type_2 {ret F n h} {v0 v1 r0} : eX0_type ret F (n + 1) 2 [v0, v1] (r0 :: []) h 0 0 = (eX0_type ret F n 5 [v0, v1] (.long (lN 32) :: r0 :: []) h 0 0) := (amWp_dec rfl dX0_type_2 rfl).trans (amS4 (Nat.le_of_ble_eq_true rfl) (Nat.le_of_ble_eq_true rfl) (Nat.le_of_ble_eq_true rfl) (Nat.le_of_ble_eq_true rfl))
theorem wX0_type_5 {ret F n h} {v0 v1 r0 r1} : eX0_type ret F (n + 1) 5 [v0, v1] (r0 :: r1 :: []) h 0 0 = (eX0_type ret F n 8 [v0, v1] (.long (lN 126) :: r0 :: r1 :: []) h 0 0) := (amWp_dec rfl dX0_type_5 rfl).trans (amS4 (Nat.le_of_ble_eq_true rfl) (Nat.le_of_ble_eq_true rfl) (Nat.le_of_ble_eq_true rfl) (Nat.le_of_ble_eq_true rfl))
theorem wX0_type_8 {ret F n h} {v0 v1 x2 x1 x0} : eX0_type ret F (n + 1) 8 [v0, v1] (.long x2 :: .long x1 :: .long x0 :: []) h 0 0 = (tX0_isIn [.long x0, .long x1, .long x2] h (fun v h => eX0_type ret F n 11 [v0, v1] (v.toList ++ ([])) h 0 0)) := (amWp_dec rfl dX0_type_8 rfl).trans (amS4 (Nat.le_of_ble_eq_true rfl) (Nat.le_of_ble_eq_true rfl) (Nat.le_of_ble_eq_true rfl) (Nat.le_of_ble_eq_true rfl))
theorem wX0_type_11 {ret F n h} {v0 v1 st x} : eX0_type ret F (n + 1) 11 [v0, v1] (.int x :: st) h 0 0 = ((¬ x = 0 → eX0_type ret F n 16 [v0, v1] (st) h 0 0) ∧ (x = 0 → eX0_type ret F n 14 [v0, v1] (st) h 0 0)) := (amWp_dec rfl dX0_type_11 rfl).trans rfl
theorem wX0_type_14 {ret F n h} {v0 v1 st} : eX0_type ret F (n + 1) 14 [v0, v1] (st) h 0 0 = (eX0_type ret F n 15 [v0, v1] (.int (-1) :: st) h 0 0) := (amWp_dec rfl dX0_type_14 rfl).trans rfl
theorem wX0_type_15 {ret F n h} {v0 v1 x} : eX0_type ret F (n + 1) 15 [v0, v1] ([.int x]) h 0 0 = (ret (some (.int x)) h 0 0) := (amWp_dec rfl dX0_type_15 rfl).trans (amTrue ⟨_, rfl, rfl⟩)
theorem wX0_type_16 {ret F n h} {v0 v1 st} : eX0_type ret F (n + 1) 16 [v0, v1] (st) h 0 0 = (amIsR v0 ∧ eX0_type ret F n 17 [v0, v1] (v0 :: st) h 0 0) := (amWp_dec rfl dX0_type_16 rfl).trans rfl
theorem wX0_type_17 {ret F n h} {v0 v1 a} : eX0_type ret F (n + 1) 17 [v0, v1] (.ref a :: []) h 0 0 = (h.1 a = (0, 0) ∧ eX0_type ret F n 20 [v0, v1] (va_rf (h.2.2.2.1 a 17) :: []) h 0 0) := (amWp_dec rfl dX0_type_17 rfl).trans (amS4 (Nat.le_of_ble_eq_true rfl) (Nat.le_of_ble_eq_true rfl) (Nat.le_of_ble_eq_true rfl) (Nat.le_of_ble_eq_true rfl))
theorem wX0_type_20 {ret F n h} {v0 v1 a} : eX0_type ret F (n + 1) 20 [v0, v1] (.ref a :: []) h 0 0 = (h.1 a = (0, 4) ∧ eX0_type ret F n 23 [v0, v1] (.int (h.2.1 a 1) :: []) h 0 0) := (amWp_dec rfl dX0_type_20 rfl).trans (amS4 (Nat.le_of_ble_eq_true rfl) (Nat.le_of_ble_eq_true rfl) (Nat.le_of_ble_eq_true rfl) (Nat.le_of_ble_eq_true rfl))
theorem wX0_type_23 {ret F n h} {v0 v1 st} : eX0_type ret F (n + 1) 23 [v0, v1] (st) h 0 0 = (eX0_type ret F n 25 [v0, v1] (.int (nI 90) :: st) h 0 0) := (amWp_dec rfl dX0_type_23 rfl).trans rfl
theorem wX0_type_25 {ret F n h} {v0 v1 st y x} : eX0_type ret F (n + 1) 25 [v0, v1] (.int y :: .int x :: st) h 0 0 = ((¬ x = y → eX0_type ret F n 31 [v0, v1] (st) h 0 0) ∧ (x = y → eX0_type ret F n 28 [v0, v1] (st) h 0 0)) := (amWp_dec rfl dX0_type_25 rfl).trans rfl
theorem wX0_type_28 {ret F n h} {v0 v1 st} : eX0_type ret F (n + 1) 28 [v0, v1] (st) h 0 0 = (eX0_type ret F n 30 [v0, v1] (.int (-3) :: st) h 0 0) := (amWp_dec rfl dX0_type_28 rfl).trans rfl
theorem wX0_type_30 {ret F n h} {v0 v1 x} : eX0_type ret F (n + 1) 30 [v0, v1] ([.int x]) h 0 0 = (ret (some (.int x)) h 0 0) := (amWp_dec rfl dX0_type_30 rfl).trans (amTrue ⟨_, rfl, rfl⟩)
theorem wX0_type_31 {ret F n h} {v0 v1 st} : eX0_type ret F (n + 1) 31 [v0, v1] (st) h 0 0 = (amIsR v0 ∧ eX0_type ret F n 32 [v0, v1] (v0 :: st) h 0 0) := (amWp_dec rfl dX0_type_31 rfl).trans rfl
theorem wX0_type_32 {ret F n h} {v0 v1 a} : eX0_type ret F (n + 1) 32 [v0, v1] (.ref a :: []) h 0 0 = (h.1 a = (0, 0) ∧ eX0_type ret F n 35 [v0, v1] (va_rf (h.2.2.2.1 a 17) :: []) h 0 0) := (amWp_dec rfl dX0_type_32 rfl).trans (amS4 (Nat.le_of_ble_eq_true rfl) (Nat.le_of_ble_eq_true rfl) (Nat.le_of_ble_eq_true rfl) (Nat.le_of_ble_eq_true rfl))
theorem wX0_type_35 {ret F n h} {v0 v1 a} : eX0_type ret F (n + 1) 35 [v0, v1] (.ref a :: []) h 0 0 = (h.1 a = (0, 4) ∧ eX0_type ret F n 38 [v0, v1] (va_rf (h.2.2.2.1 a 0) :: []) h 0 0) := (amWp_dec rfl dX0_type_35 rfl).trans (amS4 (Nat.le_of_ble_eq_true rfl) (Nat.le_of_ble_eq_true rfl) (Nat.le_of_ble_eq_true rfl) (Nat.le_of_ble_eq_true rfl))
theorem wX0_type_38 {ret F n h} {v0 v1 st} : eX0_type ret F (n + 1) 38 [v0, v1] (st) h 0 0 = (amIsR v0 ∧ eX0_type ret F n 39 [v0, v1] (v0 :: st) h 0 0) := (amWp_dec rfl dX0_type_38 rfl).trans rfl
theorem wX0_type_39 {ret F n h} {v0 v1 r0 a} : eX0_type ret F (n + 1) 39 [v0, v1] (.ref a :: r0 :: []) h 0 0 = (h.1 a = (0, 0) ∧ eX0_type ret F n 42 [v0, v1] (va_rf (h.2.2.2.1 a 17) :: r0 :: []) h 0 0) := (amWp_dec rfl dX0_type_39 rfl).trans (amS4 (Nat.le_of_ble_eq_true rfl) (Nat.le_of_ble_eq_true rfl) (Nat.le_of_ble_eq_true rfl) (Nat.le_of_ble_eq_true rfl))
theorem wX0_type_42 {ret F n h} {v0 v1 r0 a} : eX0_type ret F (n + 1) 42 [v0, v1] (.ref a :: r0 :: []) h 0 0 = (h.1 a = (0, 4) ∧ eX0_type ret F n 45 [v0, v1] (.int (h.2.1 a 1) :: r0 :: []) h 0 0) := (amWp_dec rfl dX0_type_42 rfl).trans (amS4 (Nat.le_of_ble_eq_true rfl) (Nat.le_of_ble_eq_true rfl) (Nat.le_of_ble_eq_true rfl) (Nat.le_of_ble_eq_true rfl))
theorem wX0_type_45 {ret F n h} {v0 st x} : eX0_type ret F (n + 1) 45 [v0, .int x] (st) h 0 0 = (eX0_type ret F n 46 [v0, .int x] (.int x :: st) h 0 0) := (amWp_dec rfl dX0_type_45 rfl).trans rfl
theorem wX0_type_46 {ret F n h} {v0 v1 st x} : eX0_type ret F (n + 1) 46 [v0, v1] (.int x :: st) h 0 0 = (eX0_type ret F n 47 [v0, v1] (.int (x.toUInt32 % 65536).toInt32 :: st) h 0 0) := (amWp_dec rfl dX0_type_46 rfl).trans rfl
theorem wX0_type_47 {ret F n h} {v0 v1 st y x a} : eX0_type ret F (n + 1) 47 [v0, v1] (.int y :: .int x :: .ref a :: st) h 0 0 = ((h.1 a).1 = 3 ∧ vp_in x (h.1 a).2 ∧ amN0 ≤ a ∧ eX0_type ret F n 48 [v0, v1] (st) (amSI h (amU h.2.1 a x.toNatClampNeg (vp_nar .char y))) 0 0) := (amWp_dec rfl dX0_type_47 rfl).trans rfl
theorem wX0_type_48 {ret F n h} {v0 v1 st} : eX0_type ret F (n + 1) 48 [v0, v1] (st) h 0 0 = (amIsR v0 ∧ eX0_type ret F n 49 [v0, v1] (v0 :: st) h 0 0) := (amWp_dec rfl dX0_type_48 rfl).trans rfl
theorem wX0_type_49 {ret F n h} {v0 v1 a} : eX0_type ret F (n + 1) 49 [v0, v1] (.ref a :: []) h 0 0 = (h.1 a = (0, 0) ∧ eX0_type ret F n 52 [v0, v1] (va_rf (h.2.2.2.1 a 17) :: []) h 0 0) := (amWp_dec rfl dX0_type_49 rfl).trans (amS4 (Nat.le_of_ble_eq_true rfl) (Nat.le_of_ble_eq_true rfl) (Nat.le_of_ble_eq_true rfl) (Nat.le_of_ble_eq_true rfl))
theorem wX0_type_52 {ret F n h} {v0 v1 st b} : eX0_type ret F (n + 1) 52 [v0, v1] (.ref b :: st) h 0 0 = (eX0_type ret F n 53 [v0, v1] (.ref b :: .ref b :: st) h 0 0) := (amWp_dec rfl dX0_type_52 rfl).trans (amTrue rfl)
theorem wX0_type_53 {ret F n h} {v0 v1 r0 a} : eX0_type ret F (n + 1) 53 [v0, v1] (.ref a :: r0 :: []) h 0 0 = (h.1 a = (0, 4) ∧ eX0_type ret F n 56 [v0, v1] (.int (h.2.1 a 1) :: r0 :: []) h 0 0) := (amWp_dec rfl dX0_type_53 rfl).trans (amS4 (Nat.le_of_ble_eq_true rfl) (Nat.le_of_ble_eq_true rfl) (Nat.le_of_ble_eq_true rfl) (Nat.le_of_ble_eq_true rfl))
theorem wX0_type_56 {ret F n h} {v0 v1 st} : eX0_type ret F (n + 1) 56 [v0, v1] (st) h 0 0 = (eX0_type ret F n 57 [v0, v1] (.int (nI 1) :: st) h 0 0) := (amWp_dec rfl dX0_type_56 rfl).trans rfl
theorem wX0_type_57 {ret F n h} {v0 v1 st y x} : eX0_type ret F (n + 1) 57 [v0, v1] (.int y :: .int x :: st) h 0 0 = (eX0_type ret F n 58 [v0, v1] (.int (x + y) :: st) h 0 0) := (amWp_dec rfl dX0_type_57 rfl).trans rfl
theorem wX0_type_58 {ret F n h} {v0 v1 x a} : eX0_type ret F (n + 1) 58 [v0, v1] (.int x :: .ref a :: []) h 0 0 = (h.1 a = (0, 4) ∧ amN0 ≤ a ∧ amFit .int (.int x) ∧ eX0_type ret F n 61 [v0, v1] ([]) (amSI h (amU h.2.1 a 1 x)) 0 0) := (amWp_dec rfl dX0_type_58 rfl).trans (amS4 (Nat.le_of_ble_eq_true rfl) (Nat.le_of_ble_eq_true rfl) (Nat.le_of_ble_eq_true rfl) (Nat.le_of_ble_eq_true rfl))
theorem wX0_type_61 {ret F n h} {v0 v1 st} : eX0_type ret F (n + 1) 61 [v0, v1] (st) h 0 0 = (amIsR v0 ∧ eX0_type ret F n 62 [v0, v1] (v0 :: st) h 0 0) := (amWp_dec rfl dX0_type_61 rfl).trans rfl
theorem wX0_type_62 {ret F n h} {v0 v1 a} : eX0_type ret F (n + 1) 62 [v0, v1] (.ref a :: []) h 0 0 = (h.1 a = (0, 0) ∧ eX0_type ret F n 65 [v0, v1] (va_rf (h.2.2.2.1 a 17) :: []) h 0 0) := (amWp_dec rfl dX0_type_62 rfl).trans (amS4 (Nat.le_of_ble_eq_true rfl) (Nat.le_of_ble_eq_true rfl) (Nat.le_of_ble_eq_true rfl) (Nat.le_of_ble_eq_true rfl))
theorem wX0_type_65 {ret F n h} {v0 v1 a} : eX0_type ret F (n + 1) 65 [v0, v1] (.ref a :: []) h 0 0 = (h.1 a = (0, 4) ∧ eX0_type ret F n 68 [v0, v1] (.int (h.2.1 a 1) :: []) h 0 0) := (amWp_dec rfl dX0_type_65 rfl).trans (amS4 (Nat.le_of_ble_eq_true rfl) (Nat.le_of_ble_eq_true rfl) (Nat.le_of_ble_eq_true rfl) (Nat.le_of_ble_eq_true rfl))
theorem wX0_type_68 {ret F n h} {v0 v1 x} : eX0_type ret F (n + 1) 68 [v0, v1] ([.int x]) h 0 0 = (ret (some (.int x)) h 0 0) := (amWp_dec rfl dX0_type_68 rfl).trans (amTrue ⟨_, rfl, rfl⟩)
theorem evX0_type (l : Launch) (G : amG) : ∀ pc S i sz, amLk rX0_type pc = some S → decode cX0_type pc = .ok (i, sz) → amSiteP pc G l yX0_type.cls yX0_type.name yX0_type.desc (amRm 2 0 0) i sz S.1 S.2.1 S.2.2.1 S.2.2.2 := amLk_ok (by
  refine List.forall_mem_cons.mpr ⟨⟨_, _, dX0_type_2, amSite.P (amSiteLdc2 q992)⟩, ?_⟩
  refine List.forall_mem_cons.mpr ⟨⟨_, _, dX0_type_5, amSite.P (amSiteLdc2 q993)⟩, ?_⟩
  refine List.forall_mem_cons.mpr ⟨⟨_, _, dX0_type_8, amSite.P (amSiteS (metX0_isIn l G) rfl (by decide) (by decide) (lw_S q382 q383 q86 q384) ⟨by decide +kernel, by decide +kernel, by decide +kernel⟩)⟩, ?_⟩
  refine List.forall_mem_cons.mpr ⟨⟨_, _, dX0_type_17, amSite.P (amSiteGet ⟨_, rfl, by decide, Or.inl q318⟩)⟩, ?_⟩
  refine List.forall_mem_cons.mpr ⟨⟨_, _, dX0_type_20, amSite.P (amSiteGet ⟨_, rfl, by decide, Or.inr ⟨"ReadingStages", List.mem_of_getElem? (i := 12) rfl⟩⟩)⟩, ?_⟩
  refine List.forall_mem_cons.mpr ⟨⟨_, _, dX0_type_32, amSite.P (amSiteGet ⟨_, rfl, by decide, Or.inl q318⟩)⟩, ?_⟩
  refine List.forall_mem_cons.mpr ⟨⟨_, _, dX0_type_35, amSite.P (amSiteGet ⟨_, rfl, by decide, Or.inr ⟨"ReadingStages", List.mem_of_getElem? (i := 11) rfl⟩⟩)⟩, ?_⟩
  refine List.forall_mem_cons.mpr ⟨⟨_, _, dX0_type_39, amSite.P (amSiteGet ⟨_, rfl, by decide, Or.inl q318⟩)⟩, ?_⟩
  refine List.forall_mem_cons.mpr ⟨⟨_, _, dX0_type_42, amSite.P (amSiteGet ⟨_, rfl, by decide, Or.inr ⟨"ReadingStages", List.mem_of_getElem? (i := 12) rfl⟩⟩)⟩, ?_⟩
  refine List.forall_mem_cons.mpr ⟨⟨_, _, dX0_type_49, amSite.P (amSiteGet ⟨_, rfl, by decide, Or.inl q318⟩)⟩, ?_⟩
  refine List.forall_mem_cons.mpr ⟨⟨_, _, dX0_type_53, amSite.P (amSiteGet ⟨_, rfl, by decide, Or.inr ⟨"ReadingStages", List.mem_of_getElem? (i := 12) rfl⟩⟩)⟩, ?_⟩
  refine List.forall_mem_cons.mpr ⟨⟨_, _, dX0_type_58, amSite.P (amSitePut ⟨_, rfl, by decide, Or.inr ⟨"ReadingStages", List.mem_of_getElem? (i := 12) rfl⟩⟩ (fun q h => by cases h; rfl))⟩, ?_⟩
  refine List.forall_mem_cons.mpr ⟨⟨_, _, dX0_type_62, amSite.P (amSiteGet ⟨_, rfl, by decide, Or.inl q318⟩)⟩, ?_⟩
  refine List.forall_mem_cons.mpr ⟨⟨_, _, dX0_type_65, amSite.P (amSiteGet ⟨_, rfl, by decide, Or.inr ⟨"ReadingStages", List.mem_of_getElem? (i := 12) rfl⟩⟩)⟩, ?_⟩
  exact fun _ h => absurd h List.not_mem_nil)
theorem goX0_type {ret F} (hF : amCld cX0_type kX0_type (amLk rX0_type) (some .int) 0 0 ret F) (n : Nat) {pc ls st h k z} (q : sX0_type ret F n pc ls st h k z) : F pc ls st h k z := hF.1 n pc ls st h k z q
theorem metX0_type (l : Launch) (G : amG) : amMet l G yX0_type (ws_ yX0_type cX0_type 2 (some .int)) 2 0 0 tX0_type := by
  refine amMet_of (cut := kX0_type) (by decide +kernel) (evX0_type l G) ?_
  intro as h K hT
  match as, hT with
  | [.ref a, .int x], ⟨X, e1, w, hK⟩ =>
  refine ⟨Nat.le_of_ble_eq_true rfl, fun F hF => ?_⟩
  show F 0 [.ref a, .int x] [] h 0 0
  obtain ⟨a, rfl⟩ : ∃ i : Nat, i = a := ⟨_, rfl⟩
  subst e1
  have hR := w.1.1
  have key := hK
  obtain ⟨t1, t2, t3, t4⟩ := w.2.2.2.2.2.2.1
  by_cases q : lN 32 ≤ x.toInt64 ∧ x.toInt64 ≤ lN 126
  · obtain ⟨c, c1, c2, rfl⟩ := (amInL (by decide) (by decide)).mp q
    rw [typeR, if_neg (fun z => z q), amCl_nI (by omega)] at key
    by_cases q9 : X.2.2.2.1.length = 90
    · rw [if_pos q9] at key
      refine goX0_type hF 60 ?_
      simp (disch := omega) only [wX0_type_0, uX0_type_0, wX0_type_1, wX0_type_2, wX0_type_5, wX0_type_8, wX0_type_11, wX0_type_14, wX0_type_15, wX0_type_16, wX0_type_17, wX0_type_20, wX0_type_23, wX0_type_25, wX0_type_28, wX0_type_30, wX0_type_31, wX0_type_32, wX0_type_35, wX0_type_38, wX0_type_39, wX0_type_42, wX0_type_45, wX0_type_46, wX0_type_47, wX0_type_48, wX0_type_49, wX0_type_52, wX0_type_53, wX0_type_56, wX0_type_57, wX0_type_58, wX0_type_61, wX0_type_62, wX0_type_65, wX0_type_68, amSI_1, amSI_2, amSI_3, amSI_s, amU_at, amIsR_ref, amIsR_null, amIsR_rf, amRf_some, amRf_none, amClr_int, amClr_ref, amClr_null, amClr_long, amClr_ra, amClr_rf, amFit_int, amFit_oref, amFit_aref, amFit_onull, amFit_anull, amOptSome, amOptNone, List.cons_append, List.nil_append, true_and, and_true, true_implies, not_true_eq_false, not_false_eq_true, false_implies, and_self, Nat.add_zero, Nat.zero_add, ne_eq, Prod.mk.injEq, amC01_0, amC01_1, amC01_nb, amNb0, amNb1, amTcpI_d, Nat.reduceLeDiff, Nat.reduceAdd, Nat.reduceSub, Nat.reduceEqDiff, Nat.le_refl, amN0le, hR.s, hR.r, tX0_isIn_d, t2, amLeI, amLtI, amEqI, amLe0, amGt0, amEq0, amNotPosI, amGe0, amVI, amCl_nI, amAdd, amSub, amMul]
      exact ⟨fun _ => ⟨fun z => absurd q9 z, fun _ => amRet.of (by decide) (by decide) (key h (rsFr.rf h) w)⟩, fun z => absurd q z⟩
    · rw [if_neg q9] at key
      obtain ⟨g1, g2⟩ := w.tap (m := amU (amU h.2.1 44 X.2.2.2.1.length (nI c)) 43 1 (nI (X.2.2.2.1.length + 1))) (fun i h1 h2 _ _ => by simp (disch := omega) only [amU_at, amU_ne, amU_nj, amU_neR, up_ne, up_at, amSI_2]) (fun j _ => by simp (disch := omega) only [amU_at, amU_ne, amU_nj, amU_neR, up_ne, up_at, amSI_2]) (t := X.2.2.2.1 ++ [c]) ⟨by simp; omega, by simp (disch := omega) only [amU_at, amU_ne, amU_nj, amU_neR, up_ne, up_at, amSI_2]; simp, fun i hi => by
        rw [List.length_append, List.length_singleton] at hi
        rw [app_getD]
        by_cases e : i = X.2.2.2.1.length
        · subst e
          rw [if_neg (Nat.lt_irrefl _), if_pos rfl]
          simp (disch := omega) only [amU_at, amU_ne, amU_nj, amU_neR, up_ne, up_at, amSI_2]
        · rw [if_pos (by omega)]
          simp (disch := omega) only [amU_at, amU_ne, amU_nj, amU_neR, up_ne, up_at, amSI_2]
          exact t3 i (by omega), fun y hy => by
        rcases List.mem_append.mp hy with z | z
        · exact t4 y z
        · rw [List.mem_singleton.mp z]; exact ⟨c1, c2⟩⟩
      have key := key _ g1 g2
      refine goX0_type hF 60 ?_
      simp (disch := omega) only [wX0_type_0, uX0_type_0, wX0_type_1, wX0_type_2, wX0_type_5, wX0_type_8, wX0_type_11, wX0_type_14, wX0_type_15, wX0_type_16, wX0_type_17, wX0_type_20, wX0_type_23, wX0_type_25, wX0_type_28, wX0_type_30, wX0_type_31, wX0_type_32, wX0_type_35, wX0_type_38, wX0_type_39, wX0_type_42, wX0_type_45, wX0_type_46, wX0_type_47, wX0_type_48, wX0_type_49, wX0_type_52, wX0_type_53, wX0_type_56, wX0_type_57, wX0_type_58, wX0_type_61, wX0_type_62, wX0_type_65, wX0_type_68, amSI_1, amSI_2, amSI_3, amSI_s, amU_at, amIsR_ref, amIsR_null, amIsR_rf, amRf_some, amRf_none, amClr_int, amClr_ref, amClr_null, amClr_long, amClr_ra, amClr_rf, amFit_int, amFit_oref, amFit_aref, amFit_onull, amFit_anull, amOptSome, amOptNone, List.cons_append, List.nil_append, true_and, and_true, true_implies, not_true_eq_false, not_false_eq_true, false_implies, and_self, Nat.add_zero, Nat.zero_add, ne_eq, Prod.mk.injEq, amC01_0, amC01_1, amC01_nb, amNb0, amNb1, amTcpI_d, Nat.reduceLeDiff, Nat.reduceAdd, Nat.reduceSub, Nat.reduceEqDiff, Nat.le_refl, amN0le, hR.s, hR.r, tX0_isIn_d, t2, amLeI, amLtI, amEqI, amLe0, amGt0, amEq0, amNotPosI, amGe0, amVI, amCl_nI, amAdd, amSub, amMul, amChr, amChrN, amU_ne, amU_nj]
      refine ⟨fun _ => ⟨fun _ => ?_, fun z => absurd z q9⟩, fun z => absurd q z⟩
      exact amRet.of (by decide) (by decide) key
  · rw [typeR, if_pos q] at key
    refine goX0_type hF 60 ?_
    simp (disch := omega) only [wX0_type_0, uX0_type_0, wX0_type_1, wX0_type_2, wX0_type_5, wX0_type_8, wX0_type_11, wX0_type_14, wX0_type_15, wX0_type_16, wX0_type_17, wX0_type_20, wX0_type_23, wX0_type_25, wX0_type_28, wX0_type_30, wX0_type_31, wX0_type_32, wX0_type_35, wX0_type_38, wX0_type_39, wX0_type_42, wX0_type_45, wX0_type_46, wX0_type_47, wX0_type_48, wX0_type_49, wX0_type_52, wX0_type_53, wX0_type_56, wX0_type_57, wX0_type_58, wX0_type_61, wX0_type_62, wX0_type_65, wX0_type_68, amSI_1, amSI_2, amSI_3, amSI_s, amU_at, amIsR_ref, amIsR_null, amIsR_rf, amRf_some, amRf_none, amClr_int, amClr_ref, amClr_null, amClr_long, amClr_ra, amClr_rf, amFit_int, amFit_oref, amFit_aref, amFit_onull, amFit_anull, amOptSome, amOptNone, List.cons_append, List.nil_append, true_and, and_true, true_implies, not_true_eq_false, not_false_eq_true, false_implies, and_self, Nat.add_zero, Nat.zero_add, ne_eq, Prod.mk.injEq, amC01_0, amC01_1, amC01_nb, amNb0, amNb1, amTcpI_d, Nat.reduceLeDiff, Nat.reduceAdd, Nat.reduceSub, Nat.reduceEqDiff, Nat.le_refl, amN0le, hR.s, hR.r, tX0_isIn_d]
    exact ⟨fun z => absurd (Classical.not_not.mp z) q, fun _ => amRet.of (by decide) (by decide) (key h (rsFr.rf h) w)⟩
theorem tX0_type_d {a : Nat} {x : Int32} {h : amH} {K : Option Value → amH → Prop} : tX0_type [.ref a, .int x] h K = ∃ X : XS, a = (24 : Nat) ∧ RsW h X ∧ ∀ h', rsFr h h' → RsW h' (typeR X x).1 → K (some (.int (typeR X x).2)) h' := rfl
