/-! the image; the tape -/
set_option maxRecDepth 100000
/-- the cells of the image -/
def kpC (i : Nat) : Prop := (50 ≤ i ∧ i < 55) ∨ (61 ≤ i ∧ i < 121 ∧ 5 ≤ (i - 61) % 10)
def imageR (X : XS) : XS × Int32 := ((X.1, X.2.1, some (X.1, X.2.1), X.2.2.2), nI 1)
def tX0_image : amT := fun as h K => match as with
  | [.ref a] => ∃ X : XS, a = (24 : Nat) ∧ RsW h X ∧ ∀ h', rsFr h h' → RsW h' (imageR X).1 → K (some (.int (imageR X).2)) h'
  | _ => False
/-- ints changed in the image and in figures of it -/
theorem RsW.img {h : amH} {X : XS} (w : RsW h X) {m : Nat → Nat → Int32} (f : ∀ i : Nat, i ≠ 24 → ¬ kpC i → m i = h.2.1 i) (g : ∀ j : Nat, j ≠ 22 → j ≠ 23 → m 24 j = h.2.1 24 j) {k : Option (HS × List HS)} (hk : KpIs m k) : rsFr h (amSI h m) ∧ RsW (amSI h m) (X.1, X.2.1, k, X.2.2.2) := by
  obtain ⟨⟨w1, w2, w3, w4⟩, w5, w6, w7, w8, w9, w10, w11⟩ := w
  refine ⟨⟨Nat.le_refl _, fun i h1 h2 => ⟨rfl, f i (by omega) (by unfold kpC; omega), rfl, rfl⟩⟩, ⟨w1, w2.kept (fun i h1 h2 => f i (by omega) (by unfold kpC; omega)), w3, w4⟩, w5, w6, w7.mv (g 15 (by decide) (by decide)) rfl (fun i hi => f i (by unfold pastC at hi; omega) (by unfold pastC at hi; unfold kpC; omega)), w8, hk, w10.mv (f 43 (by decide) (by unfold kpC; decide)) (f 44 (by decide) (by unfold kpC; decide)), w11.mv (fun _ _ => rfl) (Nat.le_refl _) (fun i h1 h2 => ⟨rfl, f i (by omega) (by unfold kpC; omega), rfl⟩)⟩
/-! ReadingStages.image()I -/
def kX0_image : Nat → Bool := fun pc => pc == 11 || pc == 13 || pc == 36
def rX0_image : List (Nat × amS) := [(1, 1, 0, 0, amTget 0 20), (5, 1, 0, 0, amTget 0 0), (8, 2, 0, 0, (amRecv 1 tX1_takeFrom)), (15, 1, 0, 0, amTget 0 15), (22, 1, 0, 0, amTget 0 21), (28, 1, 0, 0, amTget 0 14), (33, 2, 0, 0, (amRecv 1 tX1_takeFrom)), (44, 1, 0, 0, amTget 0 15), (47, 2, 0, 0, amTput 0 22), (52, 2, 0, 0, amTput 0 23)]
def eX0_image (ret : Option Value → amH → Nat → Nat → Prop) (F : amX) : Nat → amX := amWp cX0_image kX0_image (amLk rX0_image) (some .int) 0 0 ret F
def sX0_image (ret : Option Value → amH → Nat → Nat → Prop) (F : amX) : Nat → amX := amWs cX0_image kX0_image (amLk rX0_image) (some .int) 0 0 ret F
theorem wX0_image_0 {ret F n h} {v0 v1 st} : eX0_image ret F (n + 1) 0 [v0, v1] (st) h 0 0 = (amIsR v0 ∧ eX0_image ret F n 1 [v0, v1] (v0 :: st) h 0 0) := (amWp_dec rfl dX0_image_0 rfl).trans rfl
theorem uX0_image_0 {ret F n h} {v0 v1 st} : sX0_image ret F n 0 [v0, v1] (st) h 0 0 = (amIsR v0 ∧ eX0_image ret F n 1 [v0, v1] (v0 :: st) h 0 0) := (amWs_dec dX0_image_0 rfl).trans rfl
theorem wX0_image_1 {ret F n h} {v0 v1 a} : eX0_image ret F (n + 1) 1 [v0, v1] (.ref a :: []) h 0 0 = (h.1 a = (0, 0) ∧ eX0_image ret F n 4 [v0, v1] (va_rf (h.2.2.2.1 a 20) :: []) h 0 0) := (amWp_dec rfl dX0_image_1 rfl).trans (amS4 (Nat.le_of_ble_eq_true rfl) (Nat.le_of_ble_eq_true rfl) (Nat.le_of_ble_eq_true rfl) (Nat.le_of_ble_eq_true rfl))
theorem wX0_image_4 {ret F n h} {v0 v1 st} : eX0_image ret F (n + 1) 4 [v0, v1] (st) h 0 0 = (amIsR v0 ∧ eX0_image ret F n 5 [v0, v1] (v0 :: st) h 0 0) := (amWp_dec rfl dX0_image_4 rfl).trans rfl
theorem wX0_image_5 {ret F n h} {v0 v1 r0 a} : eX0_image ret F (n + 1) 5 [v0, v1] (.ref a :: r0 :: []) h 0 0 = (h.1 a = (0, 0) ∧ eX0_image ret F n 8 [v0, v1] (va_rf (h.2.2.2.1 a 0) :: r0 :: []) h 0 0) := (amWp_dec rfl dX0_image_5 rfl).trans (amS4 (Nat.le_of_ble_eq_true rfl) (Nat.le_of_ble_eq_true rfl) (Nat.le_of_ble_eq_true rfl) (Nat.le_of_ble_eq_true rfl))
theorem wX0_image_8 {ret F n h} {v0 v1 x1 x0} : eX0_image ret F (n + 1) 8 [v0, v1] (.ref x1 :: .ref x0 :: []) h 0 0 = (h.1 x0 = (0, 1) ∧ tX1_takeFrom [.ref x0, .ref x1] h (fun v h => eX0_image ret F n 11 [v0, v1] (v.toList ++ ([])) h 0 0)) := (amWp_dec rfl dX0_image_8 rfl).trans (amS4 (Nat.le_of_ble_eq_true rfl) (Nat.le_of_ble_eq_true rfl) (Nat.le_of_ble_eq_true rfl) (Nat.le_of_ble_eq_true rfl))
theorem wX0_image_11 {ret F n ls st h k z} : eX0_image ret F (n + 1) 11 ls st h k z = F 11 ls st h k z := amWp_cut rfl
theorem uX0_image_11 {ret F n h} {v0 v1 st} : sX0_image ret F n 11 [v0, v1] (st) h 0 0 = (eX0_image ret F n 12 [v0, v1] (.int (nI 0) :: st) h 0 0) := (amWs_dec dX0_image_11 rfl).trans rfl
theorem wX0_image_12 {ret F n h} {v0 v1 st x} : eX0_image ret F (n + 1) 12 [v0, v1] (.int x :: st) h 0 0 = (eX0_image ret F n 13 [amClr v0, .int x] (st) h 0 0) := (amWp_dec rfl dX0_image_12 rfl).trans (amTrue (Nat.le_of_ble_eq_true rfl))
theorem wX0_image_13 {ret F n ls st h k z} : eX0_image ret F (n + 1) 13 ls st h k z = F 13 ls st h k z := amWp_cut rfl
theorem uX0_image_13 {ret F n h} {v0 st x} : sX0_image ret F n 13 [v0, .int x] (st) h 0 0 = (eX0_image ret F n 14 [v0, .int x] (.int x :: st) h 0 0) := (amWs_dec dX0_image_13 rfl).trans rfl
theorem wX0_image_14 {ret F n h} {v0 v1 st} : eX0_image ret F (n + 1) 14 [v0, v1] (st) h 0 0 = (amIsR v0 ∧ eX0_image ret F n 15 [v0, v1] (v0 :: st) h 0 0) := (amWp_dec rfl dX0_image_14 rfl).trans rfl
theorem wX0_image_15 {ret F n h} {v0 v1 r0 a} : eX0_image ret F (n + 1) 15 [v0, v1] (.ref a :: r0 :: []) h 0 0 = (h.1 a = (0, 0) ∧ eX0_image ret F n 18 [v0, v1] (.int (h.2.1 a 15) :: r0 :: []) h 0 0) := (amWp_dec rfl dX0_image_15 rfl).trans (amS4 (Nat.le_of_ble_eq_true rfl) (Nat.le_of_ble_eq_true rfl) (Nat.le_of_ble_eq_true rfl) (Nat.le_of_ble_eq_true rfl))
theorem wX0_image_18 {ret F n h} {v0 v1 st y x} : eX0_image ret F (n + 1) 18 [v0, v1] (.int y :: .int x :: st) h 0 0 = ((y ≤ x → eX0_image ret F n 42 [v0, v1] (st) h 0 0) ∧ (¬ y ≤ x → eX0_image ret F n 21 [v0, v1] (st) h 0 0)) := (amWp_dec rfl dX0_image_18 rfl).trans rfl
theorem wX0_image_21 {ret F n h} {v0 v1 st} : eX0_image ret F (n + 1) 21 [v0, v1] (st) h 0 0 = (amIsR v0 ∧ eX0_image ret F n 22 [v0, v1] (v0 :: st) h 0 0) := (amWp_dec rfl dX0_image_21 rfl).trans rfl
theorem wX0_image_22 {ret F n h} {v0 v1 a} : eX0_image ret F (n + 1) 22 [v0, v1] (.ref a :: []) h 0 0 = (h.1 a = (0, 0) ∧ eX0_image ret F n 25 [v0, v1] (va_rf (h.2.2.2.1 a 21) :: []) h 0 0) := (amWp_dec rfl dX0_image_22 rfl).trans (amS4 (Nat.le_of_ble_eq_true rfl) (Nat.le_of_ble_eq_true rfl) (Nat.le_of_ble_eq_true rfl) (Nat.le_of_ble_eq_true rfl))
theorem wX0_image_25 {ret F n h} {v0 st x} : eX0_image ret F (n + 1) 25 [v0, .int x] (st) h 0 0 = (eX0_image ret F n 26 [v0, .int x] (.int x :: st) h 0 0) := (amWp_dec rfl dX0_image_25 rfl).trans rfl
theorem wX0_image_26 {ret F n h} {v0 v1 st x a} : eX0_image ret F (n + 1) 26 [v0, v1] (.int x :: .ref a :: st) h 0 0 = (6 ≤ (h.1 a).1 ∧ (h.1 a).1 ≤ 8 ∧ vp_in x (h.1 a).2 ∧ eX0_image ret F n 27 [v0, v1] (va_rf (h.2.2.2.1 a x.toNatClampNeg) :: st) h 0 0) := (amWp_dec rfl dX0_image_26 rfl).trans rfl
theorem wX0_image_27 {ret F n h} {v0 v1 st} : eX0_image ret F (n + 1) 27 [v0, v1] (st) h 0 0 = (amIsR v0 ∧ eX0_image ret F n 28 [v0, v1] (v0 :: st) h 0 0) := (amWp_dec rfl dX0_image_27 rfl).trans rfl
theorem wX0_image_28 {ret F n h} {v0 v1 r0 a} : eX0_image ret F (n + 1) 28 [v0, v1] (.ref a :: r0 :: []) h 0 0 = (h.1 a = (0, 0) ∧ eX0_image ret F n 31 [v0, v1] (va_rf (h.2.2.2.1 a 14) :: r0 :: []) h 0 0) := (amWp_dec rfl dX0_image_28 rfl).trans (amS4 (Nat.le_of_ble_eq_true rfl) (Nat.le_of_ble_eq_true rfl) (Nat.le_of_ble_eq_true rfl) (Nat.le_of_ble_eq_true rfl))
theorem wX0_image_31 {ret F n h} {v0 st x} : eX0_image ret F (n + 1) 31 [v0, .int x] (st) h 0 0 = (eX0_image ret F n 32 [v0, .int x] (.int x :: st) h 0 0) := (amWp_dec rfl dX0_image_31 rfl).trans rfl
theorem wX0_image_32 {ret F n h} {v0 v1 st x a} : eX0_image ret F (n + 1) 32 [v0, v1] (.int x :: .ref a :: st) h 0 0 = (6 ≤ (h.1 a).1 ∧ (h.1 a).1 ≤ 8 ∧ vp_in x (h.1 a).2 ∧ eX0_image ret F n 33 [v0, v1] (va_rf (h.2.2.2.1 a x.toNatClampNeg) :: st) h 0 0) := (amWp_dec rfl dX0_image_32 rfl).trans rfl
theorem wX0_image_33 {ret F n h} {v0 v1 x1 x0} : eX0_image ret F (n + 1) 33 [v0, v1] (.ref x1 :: .ref x0 :: []) h 0 0 = (h.1 x0 = (0, 1) ∧ tX1_takeFrom [.ref x0, .ref x1] h (fun v h => eX0_image ret F n 36 [v0, v1] (v.toList ++ ([])) h 0 0)) := (amWp_dec rfl dX0_image_33 rfl).trans (amS4 (Nat.le_of_ble_eq_true rfl) (Nat.le_of_ble_eq_true rfl) (Nat.le_of_ble_eq_true rfl) (Nat.le_of_ble_eq_true rfl))
theorem wX0_image_36 {ret F n ls st h k z} : eX0_image ret F (n + 1) 36 ls st h k z = F 36 ls st h k z := amWp_cut rfl
theorem uX0_image_36 {ret F n h} {v0 st x} : sX0_image ret F n 36 [v0, .int x] (st) h 0 0 = (eX0_image ret F n 39 [amClr v0, .int (x + nI 1)] (st) h 0 0) := (amWs_dec dX0_image_36 rfl).trans rfl
theorem wX0_image_39 {ret F n h} {v0 v1 st} : eX0_image ret F (n + 1) 39 [v0, v1] (st) h 0 0 = (eX0_image ret F n 13 [v0, v1] (st) h 0 0) := (amWp_dec rfl dX0_image_39 rfl).trans rfl
theorem wX0_image_42 {ret F n h} {v0 v1 st} : eX0_image ret F (n + 1) 42 [v0, v1] (st) h 0 0 = (amIsR v0 ∧ eX0_image ret F n 43 [v0, v1] (v0 :: st) h 0 0) := (amWp_dec rfl dX0_image_42 rfl).trans rfl
theorem wX0_image_43 {ret F n h} {v0 v1 st} : eX0_image ret F (n + 1) 43 [v0, v1] (st) h 0 0 = (amIsR v0 ∧ eX0_image ret F n 44 [v0, v1] (v0 :: st) h 0 0) := (amWp_dec rfl dX0_image_43 rfl).trans rfl
theorem wX0_image_44 {ret F n h} {v0 v1 r0 a} : eX0_image ret F (n + 1) 44 [v0, v1] (.ref a :: r0 :: []) h 0 0 = (h.1 a = (0, 0) ∧ eX0_image ret F n 47 [v0, v1] (.int (h.2.1 a 15) :: r0 :: []) h 0 0) := (amWp_dec rfl dX0_image_44 rfl).trans (amS4 (Nat.le_of_ble_eq_true rfl) (Nat.le_of_ble_eq_true rfl) (Nat.le_of_ble_eq_true rfl) (Nat.le_of_ble_eq_true rfl))
theorem wX0_image_47 {ret F n h} {v0 v1 x a} : eX0_image ret F (n + 1) 47 [v0, v1] (.int x :: .ref a :: []) h 0 0 = (h.1 a = (0, 0) ∧ amN0 ≤ a ∧ amFit .int (.int x) ∧ eX0_image ret F n 50 [v0, v1] ([]) (amSI h (amU h.2.1 a 22 x)) 0 0) := (amWp_dec rfl dX0_image_47 rfl).trans (amS4 (Nat.le_of_ble_eq_true rfl) (Nat.le_of_ble_eq_true rfl) (Nat.le_of_ble_eq_true rfl) (Nat.le_of_ble_eq_true rfl))
theorem wX0_image_50 {ret F n h} {v0 v1 st} : eX0_image ret F (n + 1) 50 [v0, v1] (st) h 0 0 = (amIsR v0 ∧ eX0_image ret F n 51 [v0, v1] (v0 :: st) h 0 0) := (amWp_dec rfl dX0_image_50 rfl).trans rfl
theorem wX0_image_51 {ret F n h} {v0 v1 st} : eX0_image ret F (n + 1) 51 [v0, v1] (st) h 0 0 = (eX0_image ret F n 52 [v0, v1] (.int (nI 1) :: st) h 0 0) := (amWp_dec rfl dX0_image_51 rfl).trans rfl
theorem wX0_image_52 {ret F n h} {v0 v1 x a} : eX0_image ret F (n + 1) 52 [v0, v1] (.int x :: .ref a :: []) h 0 0 = (h.1 a = (0, 0) ∧ amN0 ≤ a ∧ amFit .boolean (.int x) ∧ eX0_image ret F n 55 [v0, v1] ([]) (amSI h (amU h.2.1 a 23 x)) 0 0) := (amWp_dec rfl dX0_image_52 rfl).trans (amS4 (Nat.le_of_ble_eq_true rfl) (Nat.le_of_ble_eq_true rfl) (Nat.le_of_ble_eq_true rfl) (Nat.le_of_ble_eq_true rfl))
theorem wX0_image_55 {ret F n h} {v0 v1 st} : eX0_image ret F (n + 1) 55 [v0, v1] (st) h 0 0 = (eX0_image ret F n 56 [v0, v1] (.int (nI 1) :: st) h 0 0) := (amWp_dec rfl dX0_image_55 rfl).trans rfl
theorem wX0_image_56 {ret F n h} {v0 v1 x} : eX0_image ret F (n + 1) 56 [v0, v1] ([.int x]) h 0 0 = (ret (some (.int x)) h 0 0) := (amWp_dec rfl dX0_image_56 rfl).trans (amTrue ⟨_, rfl, rfl⟩)
theorem evX0_image (l : Launch) (G : amG) : ∀ pc S i sz, amLk rX0_image pc = some S → decode cX0_image pc = .ok (i, sz) → amSiteP pc G l yX0_image.cls yX0_image.name yX0_image.desc (amRm 3 0 0) i sz S.1 S.2.1 S.2.2.1 S.2.2.2 := amLk_ok (by
  refine List.forall_mem_cons.mpr ⟨⟨_, _, dX0_image_1, amSite.P (amSiteGet ⟨_, rfl, by decide, Or.inl q321⟩)⟩, ?_⟩
  refine List.forall_mem_cons.mpr ⟨⟨_, _, dX0_image_5, amSite.P (amSiteGet ⟨_, rfl, by decide, Or.inl q301⟩)⟩, ?_⟩
  refine List.forall_mem_cons.mpr ⟨⟨_, _, dX0_image_8, amSite.P (amSiteV (C := RX1) (metX1_takeFrom l G) rfl (by decide) (by decide) (lw_V q886 q887 q888 q87 q889) ⟨_, rfl, rfl⟩ ⟨rfl, by decide +kernel, by decide +kernel, by decide +kernel⟩)⟩, ?_⟩
  refine List.forall_mem_cons.mpr ⟨⟨_, _, dX0_image_15, amSite.P (amSiteGet ⟨_, rfl, by decide, Or.inl q316⟩)⟩, ?_⟩
  refine List.forall_mem_cons.mpr ⟨⟨_, _, dX0_image_22, amSite.P (amSiteGet ⟨_, rfl, by decide, Or.inl q322⟩)⟩, ?_⟩
  refine List.forall_mem_cons.mpr ⟨⟨_, _, dX0_image_28, amSite.P (amSiteGet ⟨_, rfl, by decide, Or.inl q315⟩)⟩, ?_⟩
  refine List.forall_mem_cons.mpr ⟨⟨_, _, dX0_image_33, amSite.P (amSiteV (C := RX1) (metX1_takeFrom l G) rfl (by decide) (by decide) (lw_V q886 q887 q888 q87 q889) ⟨_, rfl, rfl⟩ ⟨rfl, by decide +kernel, by decide +kernel, by decide +kernel⟩)⟩, ?_⟩
  refine List.forall_mem_cons.mpr ⟨⟨_, _, dX0_image_44, amSite.P (amSiteGet ⟨_, rfl, by decide, Or.inl q316⟩)⟩, ?_⟩
  refine List.forall_mem_cons.mpr ⟨⟨_, _, dX0_image_47, amSite.P (amSitePut ⟨_, rfl, by decide, Or.inl q323⟩ (fun q h => by cases h; rfl))⟩, ?_⟩
  refine List.forall_mem_cons.mpr ⟨⟨_, _, dX0_image_52, amSite.P (amSitePut ⟨_, rfl, by decide, Or.inl q324⟩ (fun q h => by cases h; rfl))⟩, ?_⟩
  exact fun _ h => absurd h List.not_mem_nil)
theorem goX0_image {ret F} (hF : amCld cX0_image kX0_image (amLk rX0_image) (some .int) 0 0 ret F) (n : Nat) {pc ls st h k z} (q : sX0_image ret F n pc ls st h k z) : F pc ls st h k z := hF.1 n pc ls st h k z q
theorem metX0_image (l : Launch) (G : amG) : amMet l G yX0_image (ws_ yX0_image cX0_image 2 (some .int)) 3 0 0 tX0_image := by
  refine amMet_of (cut := kX0_image) (by decide +kernel) (evX0_image l G) ?_
  intro as h K hT
  match as, hT with
  | [.ref a], ⟨X, e1, w, hK⟩ =>
  refine ⟨Nat.le_of_ble_eq_true rfl, fun F hF => ?_⟩
  show F 0 [.ref a, .retAddr 0] [] h 0 0
  obtain ⟨a, rfl⟩ : ∃ i : Nat, i = a := ⟨_, rfl⟩
  subst e1
  have hR := w.1.1
  have hS := w.1.2.1
  have hP := w.2.1
  have h55 := w.2.2.1
  have key := hK
  obtain ⟨u6, hu, σ, s6, si, sr, sU⟩ := w.2.2.2.1
  have loop : ∀ t k m, k + t = X.2.1.length → (∀ i : Nat, ¬ kpC i → m i = h.2.1 i) → HsIs m 50 X.1 → (∀ j, j < k → HsIs m (66 + 10 * j) (X.2.1.getD j HS0)) → F 13 [.ref 24, .int (nI k)] [] (amSI h m) 0 0 := by
    intro t
    induction t with
    | zero =>
      intro k m e f g1 g2
      have e : k = X.2.1.length := by omega
      subst e
      have m24 : m 24 15 = nI X.2.1.length := by rw [f 24 (by unfold kpC; decide)]; exact hu
      have hk : KpIs (amU (amU m 24 22 (nI X.2.1.length)) 24 23 (nI 1)) (some (X.1, X.2.1)) := by
        refine ⟨?_, ?_, w.1.2.2.1, u6, ?_, fun j hj => ?_, w.2.2.2.2.1⟩
        · simp (disch := omega) only [amU_at, amU_ne, amU_nj, amU_neR, up_ne, up_at, amSI_2]
        · exact g1.kept (fun i h1 h2 => by simp (disch := omega) only [amU_at, amU_ne, amU_nj, amU_neR, up_ne, up_at, amSI_2])
        · simp (disch := omega) only [amU_at, amU_ne, amU_nj, amU_neR, up_ne, up_at, amSI_2]
        · exact (g2 j hj).kept (fun i h1 h2 => by simp (disch := omega) only [amU_at, amU_ne, amU_nj, amU_neR, up_ne, up_at, amSI_2])
      obtain ⟨r1, r2⟩ := w.img (m := amU (amU m 24 22 (nI X.2.1.length)) 24 23 (nI 1)) (fun i h1 h2 => by
        simp (disch := omega) only [amU_at, amU_ne, amU_nj, amU_neR, up_ne, up_at, amSI_2]
        exact f i h2) (fun j j1 j2 => by
        simp (disch := omega) only [amU_at, amU_ne, amU_nj, amU_neR, up_ne, up_at, amSI_2]
        rw [f 24 (by unfold kpC; decide)]) hk
      have key := key _ r1 r2
      refine goX0_image hF 60 ?_
      simp (disch := omega) only [wX0_image_0, uX0_image_0, wX0_image_1, wX0_image_4, wX0_image_5, wX0_image_8, wX0_image_11, uX0_image_11, wX0_image_12, wX0_image_13, uX0_image_13, wX0_image_14, wX0_image_15, wX0_image_18, wX0_image_21, wX0_image_22, wX0_image_25, wX0_image_26, wX0_image_27, wX0_image_28, wX0_image_31, wX0_image_32, wX0_image_33, wX0_image_36, uX0_image_36, wX0_image_39, wX0_image_42, wX0_image_43, wX0_image_44, wX0_image_47, wX0_image_50, wX0_image_51, wX0_image_52, wX0_image_55, wX0_image_56, amSI_1, amSI_2, amSI_3, amSI_s, amU_at, amIsR_ref, amIsR_null, amIsR_rf, amRf_some, amRf_none, amClr_int, amClr_ref, amClr_null, amClr_long, amClr_ra, amClr_rf, amFit_int, amFit_oref, amFit_aref, amFit_onull, amFit_anull, amOptSome, amOptNone, List.cons_append, List.nil_append, true_and, and_true, true_implies, not_true_eq_false, not_false_eq_true, false_implies, and_self, Nat.add_zero, Nat.zero_add, ne_eq, Prod.mk.injEq, amC01_0, amC01_1, amC01_nb, amNb0, amNb1, amTcpI_d, Nat.reduceLeDiff, Nat.reduceAdd, Nat.reduceSub, Nat.reduceEqDiff, Nat.le_refl, amN0le, hR.s, hR.r, amLeI, amLtI, amEqI, amLe0, amGt0, amEq0, amNotPosI, amGe0, amVI, amCl_nI, amAdd, amSub, amMul, m24, amU_ne, amU_nj]
      exact ⟨⟨rfl, by decide, by decide⟩, amRet.of (by decide) (by decide) key⟩
    | succ t ih =>
      intro k m e f g1 g2
      have q : (X.2.1.length ≤ k) = False := eq_false (by omega)
      have m24 : m 24 15 = nI X.2.1.length := by rw [f 24 (by unfold kpC; decide)]; exact hu
      have k55 := h55 k (by omega)
      have k41 := sr k (by omega)
      have sk := s6 k (by omega)
      have a1 := (hP k (by omega)).2
      have a2 := (hP (σ k) sk).1
      have hs := (sU k (by omega)).kept (m' := m) (fun i h1 h2 => f i (by unfold kpC; omega))
      refine goX0_image hF 60 ?_
      simp (disch := omega) only [wX0_image_0, uX0_image_0, wX0_image_1, wX0_image_4, wX0_image_5, wX0_image_8, wX0_image_11, uX0_image_11, wX0_image_12, wX0_image_13, uX0_image_13, wX0_image_14, wX0_image_15, wX0_image_18, wX0_image_21, wX0_image_22, wX0_image_25, wX0_image_26, wX0_image_27, wX0_image_28, wX0_image_31, wX0_image_32, wX0_image_33, wX0_image_36, uX0_image_36, wX0_image_39, wX0_image_42, wX0_image_43, wX0_image_44, wX0_image_47, wX0_image_50, wX0_image_51, wX0_image_52, wX0_image_55, wX0_image_56, amSI_1, amSI_2, amSI_3, amSI_s, amU_at, amIsR_ref, amIsR_null, amIsR_rf, amRf_some, amRf_none, amClr_int, amClr_ref, amClr_null, amClr_long, amClr_ra, amClr_rf, amFit_int, amFit_oref, amFit_aref, amFit_onull, amFit_anull, amOptSome, amOptNone, List.cons_append, List.nil_append, true_and, and_true, true_implies, not_true_eq_false, not_false_eq_true, false_implies, and_self, Nat.add_zero, Nat.zero_add, ne_eq, Prod.mk.injEq, amC01_0, amC01_1, amC01_nb, amNb0, amNb1, amTcpI_d, Nat.reduceLeDiff, Nat.reduceAdd, Nat.reduceSub, Nat.reduceEqDiff, Nat.le_refl, amN0le, hR.s, hR.r, amLeI, amLtI, amEqI, amLe0, amGt0, amEq0, amNotPosI, amGe0, amVI, amCl_nI, amAdd, amSub, amMul, m24, q, k55, k41, a1.1, tX1_takeFrom_d]
      refine ⟨X.2.1.getD k HS0, a1, a2, by unfold hsAp; omega, hs, fun m' p1 p2 => ?_⟩
      have := ih (k + 1) m' (by omega) (fun i hi => by rw [p2 i (by unfold kpC at hi; omega)]; exact f i hi) (g1.kept (fun i h1 h2 => p2 i (by omega))) (fun j hj => by
        by_cases e : j = k
        · subst e; exact p1
        · exact (g2 j (by omega)).kept (fun i h1 h2 => p2 i (by omega)))
      refine goX0_image hF 60 ?_
      simp (disch := omega) only [wX0_image_0, uX0_image_0, wX0_image_1, wX0_image_4, wX0_image_5, wX0_image_8, wX0_image_11, uX0_image_11, wX0_image_12, wX0_image_13, uX0_image_13, wX0_image_14, wX0_image_15, wX0_image_18, wX0_image_21, wX0_image_22, wX0_image_25, wX0_image_26, wX0_image_27, wX0_image_28, wX0_image_31, wX0_image_32, wX0_image_33, wX0_image_36, uX0_image_36, wX0_image_39, wX0_image_42, wX0_image_43, wX0_image_44, wX0_image_47, wX0_image_50, wX0_image_51, wX0_image_52, wX0_image_55, wX0_image_56, amSI_1, amSI_2, amSI_3, amSI_s, amU_at, amIsR_ref, amIsR_null, amIsR_rf, amRf_some, amRf_none, amClr_int, amClr_ref, amClr_null, amClr_long, amClr_ra, amClr_rf, amFit_int, amFit_oref, amFit_aref, amFit_onull, amFit_anull, amOptSome, amOptNone, List.cons_append, List.nil_append, true_and, and_true, true_implies, not_true_eq_false, not_false_eq_true, false_implies, and_self, Nat.add_zero, Nat.zero_add, ne_eq, Prod.mk.injEq, amC01_0, amC01_1, amC01_nb, amNb0, amNb1, amTcpI_d, Nat.reduceLeDiff, Nat.reduceAdd, Nat.reduceSub, Nat.reduceEqDiff, Nat.le_refl, amN0le, hR.s, hR.r, amLeI, amLtI, amEqI, amLe0, amGt0, amEq0, amNotPosI, amGe0, amVI, amCl_nI, amAdd, amSub, amMul]
      exact this
  refine goX0_image hF 60 ?_
  simp (disch := omega) only [wX0_image_0, uX0_image_0, wX0_image_1, wX0_image_4, wX0_image_5, wX0_image_8, wX0_image_11, uX0_image_11, wX0_image_12, wX0_image_13, uX0_image_13, wX0_image_14, wX0_image_15, wX0_image_18, wX0_image_21, wX0_image_22, wX0_image_25, wX0_image_26, wX0_image_27, wX0_image_28, wX0_image_31, wX0_image_32, wX0_image_33, wX0_image_36, uX0_image_36, wX0_image_39, wX0_image_42, wX0_image_43, wX0_image_44, wX0_image_47, wX0_image_50, wX0_image_51, wX0_image_52, wX0_image_55, wX0_image_56, amSI_1, amSI_2, amSI_3, amSI_s, amU_at, amIsR_ref, amIsR_null, amIsR_rf, amRf_some, amRf_none, amClr_int, amClr_ref, amClr_null, amClr_long, amClr_ra, amClr_rf, amFit_int, amFit_oref, amFit_aref, amFit_onull, amFit_anull, amOptSome, amOptNone, List.cons_append, List.nil_append, true_and, and_true, true_implies, not_true_eq_false, not_false_eq_true, false_implies, and_self, Nat.add_zero, Nat.zero_add, ne_eq, Prod.mk.injEq, amC01_0, amC01_1, amC01_nb, amNb0, amNb1, amTcpI_d, Nat.reduceLeDiff, Nat.reduceAdd, Nat.reduceSub, Nat.reduceEqDiff, Nat.le_refl, amN0le, hR.s, hR.r, tX1_takeFrom_d]
  refine ⟨X.1, hR.keptH, hR.now, by unfold hsAp; omega, hS, fun m' p1 p2 => ?_⟩
  have := loop X.2.1.length 0 m' (by omega) (fun i hi => p2 i (by unfold kpC at hi; omega)) p1 (fun j hj => absurd hj (Nat.not_lt_zero j))
  refine goX0_image hF 60 ?_
  simp (disch := omega) only [wX0_image_0, uX0_image_0, wX0_image_1, wX0_image_4, wX0_image_5, wX0_image_8, wX0_image_11, uX0_image_11, wX0_image_12, wX0_image_13, uX0_image_13, wX0_image_14, wX0_image_15, wX0_image_18, wX0_image_21, wX0_image_22, wX0_image_25, wX0_image_26, wX0_image_27, wX0_image_28, wX0_image_31, wX0_image_32, wX0_image_33, wX0_image_36, uX0_image_36, wX0_image_39, wX0_image_42, wX0_image_43, wX0_image_44, wX0_image_47, wX0_image_50, wX0_image_51, wX0_image_52, wX0_image_55, wX0_image_56, amSI_1, amSI_2, amSI_3, amSI_s, amU_at, amIsR_ref, amIsR_null, amIsR_rf, amRf_some, amRf_none, amClr_int, amClr_ref, amClr_null, amClr_long, amClr_ra, amClr_rf, amFit_int, amFit_oref, amFit_aref, amFit_onull, amFit_anull, amOptSome, amOptNone, List.cons_append, List.nil_append, true_and, and_true, true_implies, not_true_eq_false, not_false_eq_true, false_implies, and_self, Nat.add_zero, Nat.zero_add, ne_eq, Prod.mk.injEq, amC01_0, amC01_1, amC01_nb, amNb0, amNb1, amTcpI_d, Nat.reduceLeDiff, Nat.reduceAdd, Nat.reduceSub, Nat.reduceEqDiff, Nat.le_refl, amN0le, hR.s, hR.r]
  exact this
theorem tX0_image_d {a : Nat} {h : amH} {K : Option Value → amH → Prop} : tX0_image [.ref a] h K = ∃ X : XS, a = (24 : Nat) ∧ RsW h X ∧ ∀ h', rsFr h h' → RsW h' (imageR X).1 → K (some (.int (imageR X).2)) h' := rfl
def restoreR (X : XS) : XS × Int32 := match X.2.2.1 with
  | none => (X, -4)
  | some (S, U) => ((S, U, X.2.2), nI 1)
def tX0_restore : amT := fun as h K => match as with
  | [.ref a] => ∃ X : XS, a = (24 : Nat) ∧ RsW h X ∧ ∀ h', rsFr h h' → RsW h' (restoreR X).1 → K (some (.int (restoreR X).2)) h'
  | _ => False
/-! ReadingStages.restore()I -/
def kX0_restore : Nat → Bool := fun pc => pc == 21 || pc == 23 || pc == 46
def rX0_restore : List (Nat × amS) := [(1, 1, 0, 0, amTget 0 23), (11, 1, 0, 0, amTget 0 0), (15, 1, 0, 0, amTget 0 20), (18, 2, 0, 0, (amRecv 1 tX1_takeFrom)), (25, 1, 0, 0, amTget 0 22), (32, 1, 0, 0, amTget 0 14), (38, 1, 0, 0, amTget 0 21), (43, 2, 0, 0, (amRecv 1 tX1_takeFrom)), (54, 1, 0, 0, amTget 0 22), (57, 2, 0, 0, amTput 0 15)]
def eX0_restore (ret : Option Value → amH → Nat → Nat → Prop) (F : amX) : Nat → amX := amWp cX0_restore kX0_restore (amLk rX0_restore) (some .int) 0 0 ret F
def sX0_restore (ret : Option Value → amH → Nat → Nat → Prop) (F : amX) : Nat → amX := amWs cX0_restore kX0_restore (amLk rX0_restore) (some .int) 0 0 ret F
theorem wX0_restore_0 {ret F n h} {v0 v1 st} : eX0_restore ret F (n + 1) 0 [v0, v1] (st) h 0 0 = (amIsR v0 ∧ eX0_restore ret F n 1 [v0, v1] (v0 :: st) h 0 0) := (amWp_dec rfl dX0_restore_0 rfl).trans rfl
theorem uX0_restore_0 {ret F n h} {v0 v1 st} : sX0_restore ret F n 0 [v0, v1] (st) h 0 0 = (amIsR v0 ∧ eX0_restore ret F n 1 [v0, v1] (v0 :: st) h 0 0) := (amWs_dec dX0_restore_0 rfl).trans rfl
theorem wX0_restore_1 {ret F n h} {v0 v1 a} : eX0_restore ret F (n + 1) 1 [v0, v1] (.ref a :: []) h 0 0 = (h.1 a = (0, 0) ∧ eX0_restore ret F n 4 [v0, v1] (.int (h.2.1 a 23) :: []) h 0 0) := (amWp_dec rfl dX0_restore_1 rfl).trans (amS4 (Nat.le_of_ble_eq_true rfl) (Nat.le_of_ble_eq_true rfl) (Nat.le_of_ble_eq_true rfl) (Nat.le_of_ble_eq_true rfl))
theorem wX0_restore_4 {ret F n h} {v0 v1 st x} : eX0_restore ret F (n + 1) 4 [v0, v1] (.int x :: st) h 0 0 = ((¬ x = 0 → eX0_restore ret F n 10 [v0, v1] (st) h 0 0) ∧ (x = 0 → eX0_restore ret F n 7 [v0, v1] (st) h 0 0)) := (amWp_dec rfl dX0_restore_4 rfl).trans rfl
theorem wX0_restore_7 {ret F n h} {v0 v1 st} : eX0_restore ret F (n + 1) 7 [v0, v1] (st) h 0 0 = (eX0_restore ret F n 9 [v0, v1] (.int (-4) :: st) h 0 0) := (amWp_dec rfl dX0_restore_7 rfl).trans rfl
theorem wX0_restore_9 {ret F n h} {v0 v1 x} : eX0_restore ret F (n + 1) 9 [v0, v1] ([.int x]) h 0 0 = (ret (some (.int x)) h 0 0) := (amWp_dec rfl dX0_restore_9 rfl).trans (amTrue ⟨_, rfl, rfl⟩)
theorem wX0_restore_10 {ret F n h} {v0 v1 st} : eX0_restore ret F (n + 1) 10 [v0, v1] (st) h 0 0 = (amIsR v0 ∧ eX0_restore ret F n 11 [v0, v1] (v0 :: st) h 0 0) := (amWp_dec rfl dX0_restore_10 rfl).trans rfl
theorem wX0_restore_11 {ret F n h} {v0 v1 a} : eX0_restore ret F (n + 1) 11 [v0, v1] (.ref a :: []) h 0 0 = (h.1 a = (0, 0) ∧ eX0_restore ret F n 14 [v0, v1] (va_rf (h.2.2.2.1 a 0) :: []) h 0 0) := (amWp_dec rfl dX0_restore_11 rfl).trans (amS4 (Nat.le_of_ble_eq_true rfl) (Nat.le_of_ble_eq_true rfl) (Nat.le_of_ble_eq_true rfl) (Nat.le_of_ble_eq_true rfl))
theorem wX0_restore_14 {ret F n h} {v0 v1 st} : eX0_restore ret F (n + 1) 14 [v0, v1] (st) h 0 0 = (amIsR v0 ∧ eX0_restore ret F n 15 [v0, v1] (v0 :: st) h 0 0) := (amWp_dec rfl dX0_restore_14 rfl).trans rfl
theorem wX0_restore_15 {ret F n h} {v0 v1 r0 a} : eX0_restore ret F (n + 1) 15 [v0, v1] (.ref a :: r0 :: []) h 0 0 = (h.1 a = (0, 0) ∧ eX0_restore ret F n 18 [v0, v1] (va_rf (h.2.2.2.1 a 20) :: r0 :: []) h 0 0) := (amWp_dec rfl dX0_restore_15 rfl).trans (amS4 (Nat.le_of_ble_eq_true rfl) (Nat.le_of_ble_eq_true rfl) (Nat.le_of_ble_eq_true rfl) (Nat.le_of_ble_eq_true rfl))
theorem wX0_restore_18 {ret F n h} {v0 v1 x1 x0} : eX0_restore ret F (n + 1) 18 [v0, v1] (.ref x1 :: .ref x0 :: []) h 0 0 = (h.1 x0 = (0, 1) ∧ tX1_takeFrom [.ref x0, .ref x1] h (fun v h => eX0_restore ret F n 21 [v0, v1] (v.toList ++ ([])) h 0 0)) := (amWp_dec rfl dX0_restore_18 rfl).trans (amS4 (Nat.le_of_ble_eq_true rfl) (Nat.le_of_ble_eq_true rfl) (Nat.le_of_ble_eq_true rfl) (Nat.le_of_ble_eq_true rfl))
theorem wX0_restore_21 {ret F n ls st h k z} : eX0_restore ret F (n + 1) 21 ls st h k z = F 21 ls st h k z := amWp_cut rfl
theorem uX0_restore_21 {ret F n h} {v0 v1 st} : sX0_restore ret F n 21 [v0, v1] (st) h 0 0 = (eX0_restore ret F n 22 [v0, v1] (.int (nI 0) :: st) h 0 0) := (amWs_dec dX0_restore_21 rfl).trans rfl
theorem wX0_restore_22 {ret F n h} {v0 v1 st x} : eX0_restore ret F (n + 1) 22 [v0, v1] (.int x :: st) h 0 0 = (eX0_restore ret F n 23 [amClr v0, .int x] (st) h 0 0) := (amWp_dec rfl dX0_restore_22 rfl).trans (amTrue (Nat.le_of_ble_eq_true rfl))
theorem wX0_restore_23 {ret F n ls st h k z} : eX0_restore ret F (n + 1) 23 ls st h k z = F 23 ls st h k z := amWp_cut rfl
theorem uX0_restore_23 {ret F n h} {v0 st x} : sX0_restore ret F n 23 [v0, .int x] (st) h 0 0 = (eX0_restore ret F n 24 [v0, .int x] (.int x :: st) h 0 0) := (amWs_dec dX0_restore_23 rfl).trans rfl
theorem wX0_restore_24 {ret F n h} {v0 v1 st} : eX0_restore ret F (n + 1) 24 [v0, v1] (st) h 0 0 = (amIsR v0 ∧ eX0_restore ret F n 25 [v0, v1] (v0 :: st) h 0 0) := (amWp_dec rfl dX0_restore_24 rfl).trans rfl
theorem wX0_restore_25 {ret F n h} {v0 v1 r0 a} : eX0_restore ret F (n + 1) 25 [v0, v1] (.ref a :: r0 :: []) h 0 0 = (h.1 a = (0, 0) ∧ eX0_restore ret F n 28 [v0, v1] (.int (h.2.1 a 22) :: r0 :: []) h 0 0) := (amWp_dec rfl dX0_restore_25 rfl).trans (amS4 (Nat.le_of_ble_eq_true rfl) (Nat.le_of_ble_eq_true rfl) (Nat.le_of_ble_eq_true rfl) (Nat.le_of_ble_eq_true rfl))
theorem wX0_restore_28 {ret F n h} {v0 v1 st y x} : eX0_restore ret F (n + 1) 28 [v0, v1] (.int y :: .int x :: st) h 0 0 = ((y ≤ x → eX0_restore ret F n 52 [v0, v1] (st) h 0 0) ∧ (¬ y ≤ x → eX0_restore ret F n 31 [v0, v1] (st) h 0 0)) := (amWp_dec rfl dX0_restore_28 rfl).trans rfl
theorem wX0_restore_31 {ret F n h} {v0 v1 st} : eX0_restore ret F (n + 1) 31 [v0, v1] (st) h 0 0 = (amIsR v0 ∧ eX0_restore ret F n 32 [v0, v1] (v0 :: st) h 0 0) := (amWp_dec rfl dX0_restore_31 rfl).trans rfl
theorem wX0_restore_32 {ret F n h} {v0 v1 a} : eX0_restore ret F (n + 1) 32 [v0, v1] (.ref a :: []) h 0 0 = (h.1 a = (0, 0) ∧ eX0_restore ret F n 35 [v0, v1] (va_rf (h.2.2.2.1 a 14) :: []) h 0 0) := (amWp_dec rfl dX0_restore_32 rfl).trans (amS4 (Nat.le_of_ble_eq_true rfl) (Nat.le_of_ble_eq_true rfl) (Nat.le_of_ble_eq_true rfl) (Nat.le_of_ble_eq_true rfl))
theorem wX0_restore_35 {ret F n h} {v0 st x} : eX0_restore ret F (n + 1) 35 [v0, .int x] (st) h 0 0 = (eX0_restore ret F n 36 [v0, .int x] (.int x :: st) h 0 0) := (amWp_dec rfl dX0_restore_35 rfl).trans rfl
theorem wX0_restore_36 {ret F n h} {v0 v1 st x a} : eX0_restore ret F (n + 1) 36 [v0, v1] (.int x :: .ref a :: st) h 0 0 = (6 ≤ (h.1 a).1 ∧ (h.1 a).1 ≤ 8 ∧ vp_in x (h.1 a).2 ∧ eX0_restore ret F n 37 [v0, v1] (va_rf (h.2.2.2.1 a x.toNatClampNeg) :: st) h 0 0) := (amWp_dec rfl dX0_restore_36 rfl).trans rfl
theorem wX0_restore_37 {ret F n h} {v0 v1 st} : eX0_restore ret F (n + 1) 37 [v0, v1] (st) h 0 0 = (amIsR v0 ∧ eX0_restore ret F n 38 [v0, v1] (v0 :: st) h 0 0) := (amWp_dec rfl dX0_restore_37 rfl).trans rfl
theorem wX0_restore_38 {ret F n h} {v0 v1 r0 a} : eX0_restore ret F (n + 1) 38 [v0, v1] (.ref a :: r0 :: []) h 0 0 = (h.1 a = (0, 0) ∧ eX0_restore ret F n 41 [v0, v1] (va_rf (h.2.2.2.1 a 21) :: r0 :: []) h 0 0) := (amWp_dec rfl dX0_restore_38 rfl).trans (amS4 (Nat.le_of_ble_eq_true rfl) (Nat.le_of_ble_eq_true rfl) (Nat.le_of_ble_eq_true rfl) (Nat.le_of_ble_eq_true rfl))
theorem wX0_restore_41 {ret F n h} {v0 st x} : eX0_restore ret F (n + 1) 41 [v0, .int x] (st) h 0 0 = (eX0_restore ret F n 42 [v0, .int x] (.int x :: st) h 0 0) := (amWp_dec rfl dX0_restore_41 rfl).trans rfl
theorem wX0_restore_42 {ret F n h} {v0 v1 st x a} : eX0_restore ret F (n + 1) 42 [v0, v1] (.int x :: .ref a :: st) h 0 0 = (6 ≤ (h.1 a).1 ∧ (h.1 a).1 ≤ 8 ∧ vp_in x (h.1 a).2 ∧ eX0_restore ret F n 43 [v0, v1] (va_rf (h.2.2.2.1 a x.toNatClampNeg) :: st) h 0 0) := (amWp_dec rfl dX0_restore_42 rfl).trans rfl
theorem wX0_restore_43 {ret F n h} {v0 v1 x1 x0} : eX0_restore ret F (n + 1) 43 [v0, v1] (.ref x1 :: .ref x0 :: []) h 0 0 = (h.1 x0 = (0, 1) ∧ tX1_takeFrom [.ref x0, .ref x1] h (fun v h => eX0_restore ret F n 46 [v0, v1] (v.toList ++ ([])) h 0 0)) := (amWp_dec rfl dX0_restore_43 rfl).trans (amS4 (Nat.le_of_ble_eq_true rfl) (Nat.le_of_ble_eq_true rfl) (Nat.le_of_ble_eq_true rfl) (Nat.le_of_ble_eq_true rfl))
theorem wX0_restore_46 {ret F n ls st h k z} : eX0_restore ret F (n + 1) 46 ls st h k z = F 46 ls st h k z := amWp_cut rfl
theorem uX0_restore_46 {ret F n h} {v0 st x} : sX0_restore ret F n 46 [v0, .int x] (st) h 0 0 = (eX0_restore ret F n 49 [amClr v0, .int (x + nI 1)] (st) h 0 0) := (amWs_dec dX0_restore_46 rfl).trans rfl
theorem wX0_restore_49 {ret F n h} {v0 v1 st} : eX0_restore ret F (n + 1) 49 [v0, v1] (st) h 0 0 = (eX0_restore ret F n 23 [v0, v1] (st) h 0 0) := (amWp_dec rfl dX0_restore_49 rfl).trans rfl
theorem wX0_restore_52 {ret F n h} {v0 v1 st} : eX0_restore ret F (n + 1) 52 [v0, v1] (st) h 0 0 = (amIsR v0 ∧ eX0_restore ret F n 53 [v0, v1] (v0 :: st) h 0 0) := (amWp_dec rfl dX0_restore_52 rfl).trans rfl
theorem wX0_restore_53 {ret F n h} {v0 v1 st} : eX0_restore ret F (n + 1) 53 [v0, v1] (st) h 0 0 = (amIsR v0 ∧ eX0_restore ret F n 54 [v0, v1] (v0 :: st) h 0 0) := (amWp_dec rfl dX0_restore_53 rfl).trans rfl
theorem wX0_restore_54 {ret F n h} {v0 v1 r0 a} : eX0_restore ret F (n + 1) 54 [v0, v1] (.ref a :: r0 :: []) h 0 0 = (h.1 a = (0, 0) ∧ eX0_restore ret F n 57 [v0, v1] (.int (h.2.1 a 22) :: r0 :: []) h 0 0) := (amWp_dec rfl dX0_restore_54 rfl).trans (amS4 (Nat.le_of_ble_eq_true rfl) (Nat.le_of_ble_eq_true rfl) (Nat.le_of_ble_eq_true rfl) (Nat.le_of_ble_eq_true rfl))
theorem wX0_restore_57 {ret F n h} {v0 v1 x a} : eX0_restore ret F (n + 1) 57 [v0, v1] (.int x :: .ref a :: []) h 0 0 = (h.1 a = (0, 0) ∧ amN0 ≤ a ∧ amFit .int (.int x) ∧ eX0_restore ret F n 60 [v0, v1] ([]) (amSI h (amU h.2.1 a 15 x)) 0 0) := (amWp_dec rfl dX0_restore_57 rfl).trans (amS4 (Nat.le_of_ble_eq_true rfl) (Nat.le_of_ble_eq_true rfl) (Nat.le_of_ble_eq_true rfl) (Nat.le_of_ble_eq_true rfl))
theorem wX0_restore_60 {ret F n h} {v0 v1 st} : eX0_restore ret F (n + 1) 60 [v0, v1] (st) h 0 0 = (eX0_restore ret F n 61 [v0, v1] (.int (nI 1) :: st) h 0 0) := (amWp_dec rfl dX0_restore_60 rfl).trans rfl
theorem wX0_restore_61 {ret F n h} {v0 v1 x} : eX0_restore ret F (n + 1) 61 [v0, v1] ([.int x]) h 0 0 = (ret (some (.int x)) h 0 0) := (amWp_dec rfl dX0_restore_61 rfl).trans (amTrue ⟨_, rfl, rfl⟩)
theorem evX0_restore (l : Launch) (G : amG) : ∀ pc S i sz, amLk rX0_restore pc = some S → decode cX0_restore pc = .ok (i, sz) → amSiteP pc G l yX0_restore.cls yX0_restore.name yX0_restore.desc (amRm 3 0 0) i sz S.1 S.2.1 S.2.2.1 S.2.2.2 := amLk_ok (by
  refine List.forall_mem_cons.mpr ⟨⟨_, _, dX0_restore_1, amSite.P (amSiteGet ⟨_, rfl, by decide, Or.inl q324⟩)⟩, ?_⟩
  refine List.forall_mem_cons.mpr ⟨⟨_, _, dX0_restore_11, amSite.P (amSiteGet ⟨_, rfl, by decide, Or.inl q301⟩)⟩, ?_⟩
  refine List.forall_mem_cons.mpr ⟨⟨_, _, dX0_restore_15, amSite.P (amSiteGet ⟨_, rfl, by decide, Or.inl q321⟩)⟩, ?_⟩
  refine List.forall_mem_cons.mpr ⟨⟨_, _, dX0_restore_18, amSite.P (amSiteV (C := RX1) (metX1_takeFrom l G) rfl (by decide) (by decide) (lw_V q886 q887 q888 q87 q889) ⟨_, rfl, rfl⟩ ⟨rfl, by decide +kernel, by decide +kernel, by decide +kernel⟩)⟩, ?_⟩
  refine List.forall_mem_cons.mpr ⟨⟨_, _, dX0_restore_25, amSite.P (amSiteGet ⟨_, rfl, by decide, Or.inl q323⟩)⟩, ?_⟩
  refine List.forall_mem_cons.mpr ⟨⟨_, _, dX0_restore_32, amSite.P (amSiteGet ⟨_, rfl, by decide, Or.inl q315⟩)⟩, ?_⟩
  refine List.forall_mem_cons.mpr ⟨⟨_, _, dX0_restore_38, amSite.P (amSiteGet ⟨_, rfl, by decide, Or.inl q322⟩)⟩, ?_⟩
  refine List.forall_mem_cons.mpr ⟨⟨_, _, dX0_restore_43, amSite.P (amSiteV (C := RX1) (metX1_takeFrom l G) rfl (by decide) (by decide) (lw_V q886 q887 q888 q87 q889) ⟨_, rfl, rfl⟩ ⟨rfl, by decide +kernel, by decide +kernel, by decide +kernel⟩)⟩, ?_⟩
  refine List.forall_mem_cons.mpr ⟨⟨_, _, dX0_restore_54, amSite.P (amSiteGet ⟨_, rfl, by decide, Or.inl q323⟩)⟩, ?_⟩
  refine List.forall_mem_cons.mpr ⟨⟨_, _, dX0_restore_57, amSite.P (amSitePut ⟨_, rfl, by decide, Or.inl q316⟩ (fun q h => by cases h; rfl))⟩, ?_⟩
  exact fun _ h => absurd h List.not_mem_nil)
theorem goX0_restore {ret F} (hF : amCld cX0_restore kX0_restore (amLk rX0_restore) (some .int) 0 0 ret F) (n : Nat) {pc ls st h k z} (q : sX0_restore ret F n pc ls st h k z) : F pc ls st h k z := hF.1 n pc ls st h k z q
theorem metX0_restore (l : Launch) (G : amG) : amMet l G yX0_restore (ws_ yX0_restore cX0_restore 2 (some .int)) 3 0 0 tX0_restore := by
  refine amMet_of (cut := kX0_restore) (by decide +kernel) (evX0_restore l G) ?_
  intro as h K hT
  match as, hT with
  | [.ref a], ⟨X, e1, w, hK⟩ =>
  refine ⟨Nat.le_of_ble_eq_true rfl, fun F hF => ?_⟩
  show F 0 [.ref a, .retAddr 0] [] h 0 0
  obtain ⟨a, rfl⟩ : ∃ i : Nat, i = a := ⟨_, rfl⟩
  subst e1
  have hR := w.1.1
  have hP := w.2.1
  have hN := w.1.2.2.2
  have h55 := w.2.2.1
  have key := hK
  obtain ⟨u6, hu, σ, s6, si, sr, sU⟩ := w.2.2.2.1
  have hk := w.2.2.2.2.2.1
  cases hc : X.2.2.1 with
  | none =>
    rw [hc] at hk
    have hk : h.2.1 24 23 = nI 0 := hk
    have e : restoreR X = (X, -4) := by unfold restoreR; rw [hc]
    rw [e] at key
    refine goX0_restore hF 60 ?_
    simp (disch := omega) only [wX0_restore_0, uX0_restore_0, wX0_restore_1, wX0_restore_4, wX0_restore_7, wX0_restore_9, wX0_restore_10, wX0_restore_11, wX0_restore_14, wX0_restore_15, wX0_restore_18, wX0_restore_21, uX0_restore_21, wX0_restore_22, wX0_restore_23, uX0_restore_23, wX0_restore_24, wX0_restore_25, wX0_restore_28, wX0_restore_31, wX0_restore_32, wX0_restore_35, wX0_restore_36, wX0_restore_37, wX0_restore_38, wX0_restore_41, wX0_restore_42, wX0_restore_43, wX0_restore_46, uX0_restore_46, wX0_restore_49, wX0_restore_52, wX0_restore_53, wX0_restore_54, wX0_restore_57, wX0_restore_60, wX0_restore_61, amSI_1, amSI_2, amSI_3, amSI_s, amU_at, amIsR_ref, amIsR_null, amIsR_rf, amRf_some, amRf_none, amClr_int, amClr_ref, amClr_null, amClr_long, amClr_ra, amClr_rf, amFit_int, amFit_oref, amFit_aref, amFit_onull, amFit_anull, amOptSome, amOptNone, List.cons_append, List.nil_append, true_and, and_true, true_implies, not_true_eq_false, not_false_eq_true, false_implies, and_self, Nat.add_zero, Nat.zero_add, ne_eq, Prod.mk.injEq, amC01_0, amC01_1, amC01_nb, amNb0, amNb1, amTcpI_d, Nat.reduceLeDiff, Nat.reduceAdd, Nat.reduceSub, Nat.reduceEqDiff, Nat.le_refl, amN0le, hR.s, hR.r, hk, amLeI, amLtI, amEqI, amLe0, amGt0, amEq0, amNotPosI, amGe0, amVI, amCl_nI, amAdd, amSub, amMul]
    exact amRet.of (by decide) (by decide) (key h (rsFr.rf h) w)
  | some v =>
    obtain ⟨S, U⟩ := v
    rw [hc] at hk
    obtain ⟨k1, k2, k3, k4, k5, k6, k7⟩ := hk
    have e : restoreR X = ((S, U, X.2.2), nI 1) := by unfold restoreR; rw [hc]
    rw [e] at key
    have loop : ∀ t k m, k + t = U.length → (∀ i : Nat, ¬ pastC i → (i < 25 ∨ 30 ≤ i) → m i = h.2.1 i) → HsIs m 25 S → (∀ j, j < k → HsIs m (61 + 10 * σ j) (U.getD j HS0)) → F 23 [.ref 24, .int (nI k)] [] (amSI h m) 0 0 := by
      intro t
      induction t with
      | zero =>
        intro k m e f g1 g2
        have e : k = U.length := by omega
        subst e
        have m24 : m 24 22 = nI U.length := by rw [f 24 (by unfold pastC; decide) (by decide)]; exact k5
        have fo : opFr h (amSI h (amU m 24 15 (nI U.length))) := opFr.si (fun i h1 h2 h3 h4 => by
          simp (disch := omega) only [amU_at, amU_ne, amU_nj, amU_neR, up_ne, up_at, amSI_2]
          exact f i h4 h2) (fun j hj => by
          simp (disch := omega) only [amU_at, amU_ne, amU_nj, amU_neR, up_ne, up_at, amSI_2]
          rw [f 24 (by unfold pastC; decide) (by decide)])
        have g := w.op fo (S := S) (U := U) (g1.kept (fun i h1 h2 => by simp (disch := omega) only [amU_at, amU_ne, amU_nj, amU_neR, up_ne, up_at, amSI_2])) k3 ⟨k4, by simp (disch := omega) only [amU_at, amU_ne, amU_nj, amU_neR, up_ne, up_at, amSI_2], σ, s6, si, sr, fun j hj => by
          have := s6 j (by omega)
          exact (g2 j hj).kept (fun i h1 h2 => by simp (disch := omega) only [amU_at, amU_ne, amU_nj, amU_neR, up_ne, up_at, amSI_2])⟩ k7
        have key := key _ (fo.rs hN) g
        refine goX0_restore hF 60 ?_
        simp (disch := omega) only [wX0_restore_0, uX0_restore_0, wX0_restore_1, wX0_restore_4, wX0_restore_7, wX0_restore_9, wX0_restore_10, wX0_restore_11, wX0_restore_14, wX0_restore_15, wX0_restore_18, wX0_restore_21, uX0_restore_21, wX0_restore_22, wX0_restore_23, uX0_restore_23, wX0_restore_24, wX0_restore_25, wX0_restore_28, wX0_restore_31, wX0_restore_32, wX0_restore_35, wX0_restore_36, wX0_restore_37, wX0_restore_38, wX0_restore_41, wX0_restore_42, wX0_restore_43, wX0_restore_46, uX0_restore_46, wX0_restore_49, wX0_restore_52, wX0_restore_53, wX0_restore_54, wX0_restore_57, wX0_restore_60, wX0_restore_61, amSI_1, amSI_2, amSI_3, amSI_s, amU_at, amIsR_ref, amIsR_null, amIsR_rf, amRf_some, amRf_none, amClr_int, amClr_ref, amClr_null, amClr_long, amClr_ra, amClr_rf, amFit_int, amFit_oref, amFit_aref, amFit_onull, amFit_anull, amOptSome, amOptNone, List.cons_append, List.nil_append, true_and, and_true, true_implies, not_true_eq_false, not_false_eq_true, false_implies, and_self, Nat.add_zero, Nat.zero_add, ne_eq, Prod.mk.injEq, amC01_0, amC01_1, amC01_nb, amNb0, amNb1, amTcpI_d, Nat.reduceLeDiff, Nat.reduceAdd, Nat.reduceSub, Nat.reduceEqDiff, Nat.le_refl, amN0le, hR.s, hR.r, amLeI, amLtI, amEqI, amLe0, amGt0, amEq0, amNotPosI, amGe0, amVI, amCl_nI, amAdd, amSub, amMul, m24, amU_ne, amU_nj]
        exact amRet.of (by decide) (by decide) key
      | succ t ih =>
        intro k m e f g1 g2
        have q : (U.length ≤ k) = False := eq_false (by omega)
        have m24 : m 24 22 = nI U.length := by rw [f 24 (by unfold pastC; decide) (by decide)]; exact k5
        have k55 := h55 k (by omega)
        have k41 := sr k (by omega)
        have sk := s6 k (by omega)
        have a1 := (hP k (by omega)).2
        have a2 := (hP (σ k) sk).1
        have hs := (k6 k (by omega)).kept (m' := m) (fun i h1 h2 => f i (by unfold pastC; omega) (by omega))
        refine goX0_restore hF 60 ?_
        simp (disch := omega) only [wX0_restore_0, uX0_restore_0, wX0_restore_1, wX0_restore_4, wX0_restore_7, wX0_restore_9, wX0_restore_10, wX0_restore_11, wX0_restore_14, wX0_restore_15, wX0_restore_18, wX0_restore_21, uX0_restore_21, wX0_restore_22, wX0_restore_23, uX0_restore_23, wX0_restore_24, wX0_restore_25, wX0_restore_28, wX0_restore_31, wX0_restore_32, wX0_restore_35, wX0_restore_36, wX0_restore_37, wX0_restore_38, wX0_restore_41, wX0_restore_42, wX0_restore_43, wX0_restore_46, uX0_restore_46, wX0_restore_49, wX0_restore_52, wX0_restore_53, wX0_restore_54, wX0_restore_57, wX0_restore_60, wX0_restore_61, amSI_1, amSI_2, amSI_3, amSI_s, amU_at, amIsR_ref, amIsR_null, amIsR_rf, amRf_some, amRf_none, amClr_int, amClr_ref, amClr_null, amClr_long, amClr_ra, amClr_rf, amFit_int, amFit_oref, amFit_aref, amFit_onull, amFit_anull, amOptSome, amOptNone, List.cons_append, List.nil_append, true_and, and_true, true_implies, not_true_eq_false, not_false_eq_true, false_implies, and_self, Nat.add_zero, Nat.zero_add, ne_eq, Prod.mk.injEq, amC01_0, amC01_1, amC01_nb, amNb0, amNb1, amTcpI_d, Nat.reduceLeDiff, Nat.reduceAdd, Nat.reduceSub, Nat.reduceEqDiff, Nat.le_refl, amN0le, hR.s, hR.r, amLeI, amLtI, amEqI, amLe0, amGt0, amEq0, amNotPosI, amGe0, amVI, amCl_nI, amAdd, amSub, amMul, m24, q, k55, k41, a2.1, tX1_takeFrom_d]
        refine ⟨U.getD k HS0, a2, a1, by unfold hsAp; omega, hs, fun m' p1 p2 => ?_⟩
        have := ih (k + 1) m' (by omega) (fun i hi h2 => by rw [p2 i (by unfold pastC at hi; omega)]; exact f i hi h2) (g1.kept (fun i h1 h2 => p2 i (by omega))) (fun j hj => by
          by_cases e : j = k
          · subst e; exact p1
          · have sj := s6 j (by omega)
            have ne : σ j ≠ σ k := fun z => e (si j k (by omega) (by omega) z)
            exact (g2 j (by omega)).kept (fun i h1 h2 => p2 i (by omega)))
        refine goX0_restore hF 60 ?_
        simp (disch := omega) only [wX0_restore_0, uX0_restore_0, wX0_restore_1, wX0_restore_4, wX0_restore_7, wX0_restore_9, wX0_restore_10, wX0_restore_11, wX0_restore_14, wX0_restore_15, wX0_restore_18, wX0_restore_21, uX0_restore_21, wX0_restore_22, wX0_restore_23, uX0_restore_23, wX0_restore_24, wX0_restore_25, wX0_restore_28, wX0_restore_31, wX0_restore_32, wX0_restore_35, wX0_restore_36, wX0_restore_37, wX0_restore_38, wX0_restore_41, wX0_restore_42, wX0_restore_43, wX0_restore_46, uX0_restore_46, wX0_restore_49, wX0_restore_52, wX0_restore_53, wX0_restore_54, wX0_restore_57, wX0_restore_60, wX0_restore_61, amSI_1, amSI_2, amSI_3, amSI_s, amU_at, amIsR_ref, amIsR_null, amIsR_rf, amRf_some, amRf_none, amClr_int, amClr_ref, amClr_null, amClr_long, amClr_ra, amClr_rf, amFit_int, amFit_oref, amFit_aref, amFit_onull, amFit_anull, amOptSome, amOptNone, List.cons_append, List.nil_append, true_and, and_true, true_implies, not_true_eq_false, not_false_eq_true, false_implies, and_self, Nat.add_zero, Nat.zero_add, ne_eq, Prod.mk.injEq, amC01_0, amC01_1, amC01_nb, amNb0, amNb1, amTcpI_d, Nat.reduceLeDiff, Nat.reduceAdd, Nat.reduceSub, Nat.reduceEqDiff, Nat.le_refl, amN0le, hR.s, hR.r, amLeI, amLtI, amEqI, amLe0, amGt0, amEq0, amNotPosI, amGe0, amVI, amCl_nI, amAdd, amSub, amMul]
        exact this
    have n1 : (nI 1 = 0) = False := by decide
    refine goX0_restore hF 60 ?_
    simp (disch := omega) only [wX0_restore_0, uX0_restore_0, wX0_restore_1, wX0_restore_4, wX0_restore_7, wX0_restore_9, wX0_restore_10, wX0_restore_11, wX0_restore_14, wX0_restore_15, wX0_restore_18, wX0_restore_21, uX0_restore_21, wX0_restore_22, wX0_restore_23, uX0_restore_23, wX0_restore_24, wX0_restore_25, wX0_restore_28, wX0_restore_31, wX0_restore_32, wX0_restore_35, wX0_restore_36, wX0_restore_37, wX0_restore_38, wX0_restore_41, wX0_restore_42, wX0_restore_43, wX0_restore_46, uX0_restore_46, wX0_restore_49, wX0_restore_52, wX0_restore_53, wX0_restore_54, wX0_restore_57, wX0_restore_60, wX0_restore_61, amSI_1, amSI_2, amSI_3, amSI_s, amU_at, amIsR_ref, amIsR_null, amIsR_rf, amRf_some, amRf_none, amClr_int, amClr_ref, amClr_null, amClr_long, amClr_ra, amClr_rf, amFit_int, amFit_oref, amFit_aref, amFit_onull, amFit_anull, amOptSome, amOptNone, List.cons_append, List.nil_append, true_and, and_true, true_implies, not_true_eq_false, not_false_eq_true, false_implies, and_self, Nat.add_zero, Nat.zero_add, ne_eq, Prod.mk.injEq, amC01_0, amC01_1, amC01_nb, amNb0, amNb1, amTcpI_d, Nat.reduceLeDiff, Nat.reduceAdd, Nat.reduceSub, Nat.reduceEqDiff, Nat.le_refl, amN0le, hR.s, hR.r, k1, n1, tX1_takeFrom_d]
    refine ⟨S, hR.now, hR.keptH, by unfold hsAp; omega, k2, fun m' p1 p2 => ?_⟩
    have := loop U.length 0 m' (by omega) (fun i hi h2 => p2 i (by omega)) p1 (fun j hj => absurd hj (Nat.not_lt_zero j))
    refine goX0_restore hF 60 ?_
    simp (disch := omega) only [wX0_restore_0, uX0_restore_0, wX0_restore_1, wX0_restore_4, wX0_restore_7, wX0_restore_9, wX0_restore_10, wX0_restore_11, wX0_restore_14, wX0_restore_15, wX0_restore_18, wX0_restore_21, uX0_restore_21, wX0_restore_22, wX0_restore_23, uX0_restore_23, wX0_restore_24, wX0_restore_25, wX0_restore_28, wX0_restore_31, wX0_restore_32, wX0_restore_35, wX0_restore_36, wX0_restore_37, wX0_restore_38, wX0_restore_41, wX0_restore_42, wX0_restore_43, wX0_restore_46, uX0_restore_46, wX0_restore_49, wX0_restore_52, wX0_restore_53, wX0_restore_54, wX0_restore_57, wX0_restore_60, wX0_restore_61, amSI_1, amSI_2, amSI_3, amSI_s, amU_at, amIsR_ref, amIsR_null, amIsR_rf, amRf_some, amRf_none, amClr_int, amClr_ref, amClr_null, amClr_long, amClr_ra, amClr_rf, amFit_int, amFit_oref, amFit_aref, amFit_onull, amFit_anull, amOptSome, amOptNone, List.cons_append, List.nil_append, true_and, and_true, true_implies, not_true_eq_false, not_false_eq_true, false_implies, and_self, Nat.add_zero, Nat.zero_add, ne_eq, Prod.mk.injEq, amC01_0, amC01_1, amC01_nb, amNb0, amNb1, amTcpI_d, Nat.reduceLeDiff, Nat.reduceAdd, Nat.reduceSub, Nat.reduceEqDiff, Nat.le_refl, amN0le, hR.s, hR.r]
    exact this
theorem tX0_restore_d {a : Nat} {h : amH} {K : Option Value → amH → Prop} : tX0_restore [.ref a] h K = ∃ X : XS, a = (24 : Nat) ∧ RsW h X ∧ ∀ h', rsFr h h' → RsW h' (restoreR X).1 → K (some (.int (restoreR X).2)) h' := rfl
