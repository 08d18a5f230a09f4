/-! the reference's text reading: letters, words -/
set_option maxRecDepth 100000
theorem lN_leB {a b : Nat} (ha : a < 2147483648) (hb : b < 2147483648) : (lN a ≤ lN b) = (a ≤ b) := by
  apply propext
  rw [Int64.le_iff_toInt_le, lN_toInt (by omega), lN_toInt (by omega)]
  omega
theorem figIn {c l u : Nat} (hc : c < 1000) (hl : l < 1000) (hu : u < 1000) : (lN l ≤ (nI c - nI 48).toInt64 ∧ (nI c - nI 48).toInt64 ≤ lN u) = (48 + l ≤ c ∧ c ≤ 48 + u) := by
  apply propext
  rw [Int64.le_iff_toInt_le, Int64.le_iff_toInt_le, Int32.toInt_toInt64, Int32.toInt_sub, nI_toInt (by omega), nI_toInt (by omega), lN_toInt (by omega), lN_toInt (by omega), Int.bmod_eq_of_le (by omega) (by omega)]
  omega
/-- the place alone has changed -/
def plFr (m m' : Nat → Nat → Int32) : Prop := (∀ i : Nat, i ≠ 124 → m' i = m i) ∧ ∀ j : Nat, j ≠ 25 → m' 124 j = m 124 j
theorem plFr.rf (m : Nat → Nat → Int32) : plFr m m := ⟨fun _ _ => rfl, fun _ _ => rfl⟩
theorem plFr.tr {m m2 m3 : Nat → Nat → Int32} (a : plFr m m2) (b : plFr m2 m3) : plFr m m3 := ⟨fun i h => (b.1 i h).trans (a.1 i h), fun j h => (b.2 j h).trans (a.2 j h)⟩
theorem plFr.put (m : Nat → Nat → Int32) (x : Int32) : plFr m (amU m 124 25 x) := ⟨fun i h => by simp (disch := omega) only [amU_at, amU_ne, amU_nj, amU_neR, up_ne, up_at, amSI_2], fun j h => by simp (disch := omega) only [amU_at, amU_ne, amU_nj, amU_neR, up_ne, up_at, amSI_2]⟩
/-- a tape -/
def TxM (m : Nat → Nat → Int32) (t : List Nat) : Prop := TpM m t ∧ tOk t
theorem TxM.kept {m m' : Nat → Nat → Int32} {t : List Nat} (h : TxM m t) (f : plFr m m') : TxM m' t := ⟨h.1.kept (f.2 7 (by decide)) (f.1 129 (by decide)), h.2⟩
def tX6_here : amT := fun as h K => match as with
  | [.ref a] => ∃ (t : List Nat) (p : Nat), a = (124 : Nat) ∧ mdAt h ∧ TxM h.2.1 t ∧ h.2.1 124 25 = nI p ∧ p ≤ t.length ∧ ∀ m', m' 124 25 = nI (skip t p) → plFr h.2.1 m' → K (some (.int (nI (t.getD (skip t p) 0)))) (amSI h m')
  | _ => False
/-! ReadingStagesModel.here()I -/
def kX6_here : Nat → Bool := fun pc => pc == 0
def rX6_here : List (Nat × amS) := [(1, 1, 0, 0, amTget 6 25), (5, 1, 0, 0, amTget 6 7), (12, 1, 0, 0, amTget 6 6), (16, 1, 0, 0, amTget 6 25), (27, 1, 0, 0, amTget 6 25), (32, 2, 0, 0, amTput 6 25), (39, 1, 0, 0, amTget 6 25), (43, 1, 0, 0, amTget 6 7), (50, 1, 0, 0, amTget 6 6), (54, 1, 0, 0, amTget 6 25)]
def eX6_here (ret : Option Value → amH → Nat → Nat → Prop) (F : amX) : Nat → amX := amWp cX6_here kX6_here (amLk rX6_here) (some .int) 0 0 ret F
def sX6_here (ret : Option Value → amH → Nat → Nat → Prop) (F : amX) : Nat → amX := amWs cX6_here kX6_here (amLk rX6_here) (some .int) 0 0 ret F
theorem wX6_here_0 {ret F n ls st h k z} : eX6_here ret F (n + 1) 0 ls st h k z = F 0 ls st h k z := amWp_cut rfl
theorem uX6_here_0 {ret F n h} {v0 st} : sX6_here ret F n 0 [v0] (st) h 0 0 = (amIsR v0 ∧ eX6_here ret F n 1 [v0] (v0 :: st) h 0 0) := (amWs_dec dX6_here_0 rfl).trans rfl
theorem wX6_here_1 {ret F n h} {v0 a} : eX6_here ret F (n + 1) 1 [v0] (.ref a :: []) h 0 0 = (h.1 a = (0, 6) ∧ eX6_here ret F n 4 [v0] (.int (h.2.1 a 25) :: []) h 0 0) := (amWp_dec rfl dX6_here_1 rfl).trans (amS4 (Nat.le_of_ble_eq_true rfl) (Nat.le_of_ble_eq_true rfl) (Nat.le_of_ble_eq_true rfl) (Nat.le_of_ble_eq_true rfl))
theorem wX6_here_4 {ret F n h} {v0 st} : eX6_here ret F (n + 1) 4 [v0] (st) h 0 0 = (amIsR v0 ∧ eX6_here ret F n 5 [v0] (v0 :: st) h 0 0) := (amWp_dec rfl dX6_here_4 rfl).trans rfl
theorem wX6_here_5 {ret F n h} {v0 r0 a} : eX6_here ret F (n + 1) 5 [v0] (.ref a :: r0 :: []) h 0 0 = (h.1 a = (0, 6) ∧ eX6_here ret F n 8 [v0] (.int (h.2.1 a 7) :: r0 :: []) h 0 0) := (amWp_dec rfl dX6_here_5 rfl).trans (amS4 (Nat.le_of_ble_eq_true rfl) (Nat.le_of_ble_eq_true rfl) (Nat.le_of_ble_eq_true rfl) (Nat.le_of_ble_eq_true rfl))
theorem wX6_here_8 {ret F n h} {v0 st y x} : eX6_here ret F (n + 1) 8 [v0] (.int y :: .int x :: st) h 0 0 = ((y ≤ x → eX6_here ret F n 38 [v0] (st) h 0 0) ∧ (¬ y ≤ x → eX6_here ret F n 11 [v0] (st) h 0 0)) := (amWp_dec rfl dX6_here_8 rfl).trans rfl
theorem wX6_here_11 {ret F n h} {v0 st} : eX6_here ret F (n + 1) 11 [v0] (st) h 0 0 = (amIsR v0 ∧ eX6_here ret F n 12 [v0] (v0 :: st) h 0 0) := (amWp_dec rfl dX6_here_11 rfl).trans rfl
theorem wX6_here_12 {ret F n h} {v0 a} : eX6_here ret F (n + 1) 12 [v0] (.ref a :: []) h 0 0 = (h.1 a = (0, 6) ∧ eX6_here ret F n 15 [v0] (va_rf (h.2.2.2.1 a 6) :: []) h 0 0) := (amWp_dec rfl dX6_here_12 rfl).trans (amS4 (Nat.le_of_ble_eq_true rfl) (Nat.le_of_ble_eq_true rfl) (Nat.le_of_ble_eq_true rfl) (Nat.le_of_ble_eq_true rfl))
theorem wX6_here_15 {ret F n h} {v0 st} : eX6_here ret F (n + 1) 15 [v0] (st) h 0 0 = (amIsR v0 ∧ eX6_here ret F n 16 [v0] (v0 :: st) h 0 0) := (amWp_dec rfl dX6_here_15 rfl).trans rfl
theorem wX6_here_16 {ret F n h} {v0 r0 a} : eX6_here ret F (n + 1) 16 [v0] (.ref a :: r0 :: []) h 0 0 = (h.1 a = (0, 6) ∧ eX6_here ret F n 19 [v0] (.int (h.2.1 a 25) :: r0 :: []) h 0 0) := (amWp_dec rfl dX6_here_16 rfl).trans (amS4 (Nat.le_of_ble_eq_true rfl) (Nat.le_of_ble_eq_true rfl) (Nat.le_of_ble_eq_true rfl) (Nat.le_of_ble_eq_true rfl))
theorem wX6_here_19 {ret F n h} {v0 st x a} : eX6_here ret F (n + 1) 19 [v0] (.int x :: .ref a :: st) h 0 0 = ((h.1 a).1 = 1 ∧ vp_in x (h.1 a).2 ∧ eX6_here ret F n 20 [v0] (.int (h.2.1 a x.toNatClampNeg) :: st) h 0 0) := (amWp_dec rfl dX6_here_19 rfl).trans rfl
theorem wX6_here_20 {ret F n h} {v0 st} : eX6_here ret F (n + 1) 20 [v0] (st) h 0 0 = (eX6_here ret F n 22 [v0] (.int (nI 32) :: st) h 0 0) := (amWp_dec rfl dX6_here_20 rfl).trans rfl
theorem wX6_here_22 {ret F n h} {v0 st y x} : eX6_here ret F (n + 1) 22 [v0] (.int y :: .int x :: st) h 0 0 = ((¬ x = y → eX6_here ret F n 38 [v0] (st) h 0 0) ∧ (x = y → eX6_here ret F n 25 [v0] (st) h 0 0)) := (amWp_dec rfl dX6_here_22 rfl).trans rfl
theorem wX6_here_25 {ret F n h} {v0 st} : eX6_here ret F (n + 1) 25 [v0] (st) h 0 0 = (amIsR v0 ∧ eX6_here ret F n 26 [v0] (v0 :: st) h 0 0) := (amWp_dec rfl dX6_here_25 rfl).trans rfl
theorem wX6_here_26 {ret F n h} {v0 st b} : eX6_here ret F (n + 1) 26 [v0] (.ref b :: st) h 0 0 = (eX6_here ret F n 27 [v0] (.ref b :: .ref b :: st) h 0 0) := (amWp_dec rfl dX6_here_26 rfl).trans (amTrue rfl)
theorem wX6_here_27 {ret F n h} {v0 r0 a} : eX6_here ret F (n + 1) 27 [v0] (.ref a :: r0 :: []) h 0 0 = (h.1 a = (0, 6) ∧ eX6_here ret F n 30 [v0] (.int (h.2.1 a 25) :: r0 :: []) h 0 0) := (amWp_dec rfl dX6_here_27 rfl).trans (amS4 (Nat.le_of_ble_eq_true rfl) (Nat.le_of_ble_eq_true rfl) (Nat.le_of_ble_eq_true rfl) (Nat.le_of_ble_eq_true rfl))
theorem wX6_here_30 {ret F n h} {v0 st} : eX6_here ret F (n + 1) 30 [v0] (st) h 0 0 = (eX6_here ret F n 31 [v0] (.int (nI 1) :: st) h 0 0) := (amWp_dec rfl dX6_here_30 rfl).trans rfl
theorem wX6_here_31 {ret F n h} {v0 st y x} : eX6_here ret F (n + 1) 31 [v0] (.int y :: .int x :: st) h 0 0 = (eX6_here ret F n 32 [v0] (.int (x + y) :: st) h 0 0) := (amWp_dec rfl dX6_here_31 rfl).trans rfl
theorem wX6_here_32 {ret F n h} {v0 x a} : eX6_here ret F (n + 1) 32 [v0] (.int x :: .ref a :: []) h 0 0 = (h.1 a = (0, 6) ∧ amN0 ≤ a ∧ amFit .int (.int x) ∧ eX6_here ret F n 35 [v0] ([]) (amSI h (amU h.2.1 a 25 x)) 0 0) := (amWp_dec rfl dX6_here_32 rfl).trans (amS4 (Nat.le_of_ble_eq_true rfl) (Nat.le_of_ble_eq_true rfl) (Nat.le_of_ble_eq_true rfl) (Nat.le_of_ble_eq_true rfl))
theorem wX6_here_35 {ret F n h} {v0 st} : eX6_here ret F (n + 1) 35 [v0] (st) h 0 0 = (eX6_here ret F n 0 [v0] (st) h 0 0) := (amWp_dec rfl dX6_here_35 rfl).trans rfl
theorem wX6_here_38 {ret F n h} {v0 st} : eX6_here ret F (n + 1) 38 [v0] (st) h 0 0 = (amIsR v0 ∧ eX6_here ret F n 39 [v0] (v0 :: st) h 0 0) := (amWp_dec rfl dX6_here_38 rfl).trans rfl
theorem wX6_here_39 {ret F n h} {v0 a} : eX6_here ret F (n + 1) 39 [v0] (.ref a :: []) h 0 0 = (h.1 a = (0, 6) ∧ eX6_here ret F n 42 [v0] (.int (h.2.1 a 25) :: []) h 0 0) := (amWp_dec rfl dX6_here_39 rfl).trans (amS4 (Nat.le_of_ble_eq_true rfl) (Nat.le_of_ble_eq_true rfl) (Nat.le_of_ble_eq_true rfl) (Nat.le_of_ble_eq_true rfl))
theorem wX6_here_42 {ret F n h} {v0 st} : eX6_here ret F (n + 1) 42 [v0] (st) h 0 0 = (amIsR v0 ∧ eX6_here ret F n 43 [v0] (v0 :: st) h 0 0) := (amWp_dec rfl dX6_here_42 rfl).trans rfl
theorem wX6_here_43 {ret F n h} {v0 r0 a} : eX6_here ret F (n + 1) 43 [v0] (.ref a :: r0 :: []) h 0 0 = (h.1 a = (0, 6) ∧ eX6_here ret F n 46 [v0] (.int (h.2.1 a 7) :: r0 :: []) h 0 0) := (amWp_dec rfl dX6_here_43 rfl).trans (amS4 (Nat.le_of_ble_eq_true rfl) (Nat.le_of_ble_eq_true rfl) (Nat.le_of_ble_eq_true rfl) (Nat.le_of_ble_eq_true rfl))
theorem wX6_here_46 {ret F n h} {v0 st y x} : eX6_here ret F (n + 1) 46 [v0] (.int y :: .int x :: st) h 0 0 = ((y ≤ x → eX6_here ret F n 61 [v0] (st) h 0 0) ∧ (¬ y ≤ x → eX6_here ret F n 49 [v0] (st) h 0 0)) := (amWp_dec rfl dX6_here_46 rfl).trans rfl
theorem wX6_here_49 {ret F n h} {v0 st} : eX6_here ret F (n + 1) 49 [v0] (st) h 0 0 = (amIsR v0 ∧ eX6_here ret F n 50 [v0] (v0 :: st) h 0 0) := (amWp_dec rfl dX6_here_49 rfl).trans rfl
theorem wX6_here_50 {ret F n h} {v0 a} : eX6_here ret F (n + 1) 50 [v0] (.ref a :: []) h 0 0 = (h.1 a = (0, 6) ∧ eX6_here ret F n 53 [v0] (va_rf (h.2.2.2.1 a 6) :: []) h 0 0) := (amWp_dec rfl dX6_here_50 rfl).trans (amS4 (Nat.le_of_ble_eq_true rfl) (Nat.le_of_ble_eq_true rfl) (Nat.le_of_ble_eq_true rfl) (Nat.le_of_ble_eq_true rfl))
theorem wX6_here_53 {ret F n h} {v0 st} : eX6_here ret F (n + 1) 53 [v0] (st) h 0 0 = (amIsR v0 ∧ eX6_here ret F n 54 [v0] (v0 :: st) h 0 0) := (amWp_dec rfl dX6_here_53 rfl).trans rfl
theorem wX6_here_54 {ret F n h} {v0 r0 a} : eX6_here ret F (n + 1) 54 [v0] (.ref a :: r0 :: []) h 0 0 = (h.1 a = (0, 6) ∧ eX6_here ret F n 57 [v0] (.int (h.2.1 a 25) :: r0 :: []) h 0 0) := (amWp_dec rfl dX6_here_54 rfl).trans (amS4 (Nat.le_of_ble_eq_true rfl) (Nat.le_of_ble_eq_true rfl) (Nat.le_of_ble_eq_true rfl) (Nat.le_of_ble_eq_true rfl))
theorem wX6_here_57 {ret F n h} {v0 st x a} : eX6_here ret F (n + 1) 57 [v0] (.int x :: .ref a :: st) h 0 0 = ((h.1 a).1 = 1 ∧ vp_in x (h.1 a).2 ∧ eX6_here ret F n 58 [v0] (.int (h.2.1 a x.toNatClampNeg) :: st) h 0 0) := (amWp_dec rfl dX6_here_57 rfl).trans rfl
theorem wX6_here_58 {ret F n h} {v0 st} : eX6_here ret F (n + 1) 58 [v0] (st) h 0 0 = (eX6_here ret F n 62 [v0] (st) h 0 0) := (amWp_dec rfl dX6_here_58 rfl).trans rfl
theorem wX6_here_61 {ret F n h} {v0 st} : eX6_here ret F (n + 1) 61 [v0] (st) h 0 0 = (eX6_here ret F n 62 [v0] (.int (nI 0) :: st) h 0 0) := (amWp_dec rfl dX6_here_61 rfl).trans rfl
theorem wX6_here_62 {ret F n h} {v0 x} : eX6_here ret F (n + 1) 62 [v0] ([.int x]) h 0 0 = (ret (some (.int x)) h 0 0) := (amWp_dec rfl dX6_here_62 rfl).trans (amTrue ⟨_, rfl, rfl⟩)
theorem evX6_here (l : Launch) (G : amG) : ∀ pc S i sz, amLk rX6_here pc = some S → decode cX6_here pc = .ok (i, sz) → amSiteP pc G l yX6_here.cls yX6_here.name yX6_here.desc (amRm 1 0 0) i sz S.1 S.2.1 S.2.2.1 S.2.2.2 := amLk_ok (by
  refine List.forall_mem_cons.mpr ⟨⟨_, _, dX6_here_1, amSite.P (amSiteGet ⟨_, rfl, by decide, Or.inl q1320⟩)⟩, ?_⟩
  refine List.forall_mem_cons.mpr ⟨⟨_, _, dX6_here_5, amSite.P (amSiteGet ⟨_, rfl, by decide, Or.inl q1302⟩)⟩, ?_⟩
  refine List.forall_mem_cons.mpr ⟨⟨_, _, dX6_here_12, amSite.P (amSiteGet ⟨_, rfl, by decide, Or.inl q1301⟩)⟩, ?_⟩
  refine List.forall_mem_cons.mpr ⟨⟨_, _, dX6_here_16, amSite.P (amSiteGet ⟨_, rfl, by decide, Or.inl q1320⟩)⟩, ?_⟩
  refine List.forall_mem_cons.mpr ⟨⟨_, _, dX6_here_27, amSite.P (amSiteGet ⟨_, rfl, by decide, Or.inl q1320⟩)⟩, ?_⟩
  refine List.forall_mem_cons.mpr ⟨⟨_, _, dX6_here_32, amSite.P (amSitePut ⟨_, rfl, by decide, Or.inl q1320⟩ (fun q h => by cases h; rfl))⟩, ?_⟩
  refine List.forall_mem_cons.mpr ⟨⟨_, _, dX6_here_39, amSite.P (amSiteGet ⟨_, rfl, by decide, Or.inl q1320⟩)⟩, ?_⟩
  refine List.forall_mem_cons.mpr ⟨⟨_, _, dX6_here_43, amSite.P (amSiteGet ⟨_, rfl, by decide, Or.inl q1302⟩)⟩, ?_⟩
  refine List.forall_mem_cons.mpr ⟨⟨_, _, dX6_here_50, amSite.P (amSiteGet ⟨_, rfl, by decide, Or.inl q1301⟩)⟩, ?_⟩
  refine List.forall_mem_cons.mpr ⟨⟨_, _, dX6_here_54, amSite.P (amSiteGet ⟨_, rfl, by decide, Or.inl q1320⟩)⟩, ?_⟩
  exact fun _ h => absurd h List.not_mem_nil)
theorem goX6_here {ret F} (hF : amCld cX6_here kX6_here (amLk rX6_here) (some .int) 0 0 ret F) (n : Nat) {pc ls st h k z} (q : sX6_here ret F n pc ls st h k z) : F pc ls st h k z := hF.1 n pc ls st h k z q
theorem metX6_here (l : Launch) (G : amG) : amMet l G yX6_here (ws_ yX6_here cX6_here 1 (some .int)) 1 0 0 tX6_here := by
  refine amMet_of (cut := kX6_here) (by decide +kernel) (evX6_here l G) ?_
  intro as h K hT
  match as, hT with
  | [.ref a], ⟨t, p, e, hR, ⟨⟨t90, tn, tt⟩, hO⟩, hp, pl, hK⟩ =>
  refine ⟨Nat.le_of_ble_eq_true rfl, fun F hF => ?_⟩
  show F 0 [.ref a] [] h 0 0
  obtain ⟨a, rfl⟩ : ∃ i : Nat, i = a := ⟨_, rfl⟩
  subst e
  have loop : ∀ f p m, p + f = t.length → m 124 25 = nI p → plFr h.2.1 m → (∀ m', m' 124 25 = nI (skipF f t p) → plFr h.2.1 m' → K (some (.int (nI (t.getD (skipF f t p) 0)))) (amSI h m')) → F 0 [.ref 124] [] (amSI h m) 0 0 := by
    intro f
    induction f with
    | zero =>
      intro p m e1 i1 i2 hk
      have e : p = t.length := by omega
      subst e
      rw [skipF] at hk
      have key := hk m i1 i2
      rw [chr_out (Nat.le_refl _)] at key
      have m7 : m 124 7 = nI t.length := by rw [i2.2 7 (by decide)]; exact tn
      refine goX6_here hF 60 ?_
      simp (disch := omega) only [wX6_here_0, uX6_here_0, wX6_here_1, wX6_here_4, wX6_here_5, wX6_here_8, wX6_here_11, wX6_here_12, wX6_here_15, wX6_here_16, wX6_here_19, wX6_here_20, wX6_here_22, wX6_here_25, wX6_here_26, wX6_here_27, wX6_here_30, wX6_here_31, wX6_here_32, wX6_here_35, wX6_here_38, wX6_here_39, wX6_here_42, wX6_here_43, wX6_here_46, wX6_here_49, wX6_here_50, wX6_here_53, wX6_here_54, wX6_here_57, wX6_here_58, wX6_here_61, wX6_here_62, amSI_1, amSI_2, amSI_3, amSI_s, amU_at, amIsR_ref, amIsR_null, amIsR_rf, amRf_some, amRf_none, amClr_int, amClr_ref, amClr_null, amClr_long, amClr_ra, amClr_rf, amFit_int, amFit_oref, amFit_aref, amFit_onull, amFit_anull, amOptSome, amOptNone, List.cons_append, List.nil_append, true_and, and_true, true_implies, not_true_eq_false, not_false_eq_true, false_implies, and_self, Nat.add_zero, Nat.zero_add, ne_eq, Prod.mk.injEq, amC01_0, amC01_1, amC01_nb, amNb0, amNb1, amTcpI_d, Nat.reduceLeDiff, Nat.reduceAdd, Nat.reduceSub, Nat.reduceEqDiff, Nat.le_refl, amN0le, hR.s, hR.r, amLeI, amLtI, amEqI, amLe0, amGt0, amEq0, amNotPosI, amGe0, amVI, amCl_nI, amAdd, amSub, amMul, i1, m7]
      exact amRet.of (by decide) (by decide) key
    | succ f ih =>
      intro p m e1 i1 i2 hk
      have m7 : m 124 7 = nI t.length := by rw [i2.2 7 (by decide)]; exact tn
      have mt : m 129 p = nI (t.getD p 0) := by rw [i2.1 129 (by decide)]; exact tt p (by omega)
      have q : (t.length ≤ p) = False := eq_false (by omega)
      have lt := hO.le p
      rw [skipF] at hk
      by_cases c : t.getD p 0 = 32
      · rw [if_pos c] at hk
        have nx := ih (p + 1) (amU m 124 25 (nI (p + 1))) (by omega) (by simp (disch := omega) only [amU_at, amU_ne, amU_nj, amU_neR, up_ne, up_at, amSI_2]) (i2.tr (plFr.put _ _)) hk
        refine goX6_here hF 60 ?_
        simp (disch := omega) only [wX6_here_0, uX6_here_0, wX6_here_1, wX6_here_4, wX6_here_5, wX6_here_8, wX6_here_11, wX6_here_12, wX6_here_15, wX6_here_16, wX6_here_19, wX6_here_20, wX6_here_22, wX6_here_25, wX6_here_26, wX6_here_27, wX6_here_30, wX6_here_31, wX6_here_32, wX6_here_35, wX6_here_38, wX6_here_39, wX6_here_42, wX6_here_43, wX6_here_46, wX6_here_49, wX6_here_50, wX6_here_53, wX6_here_54, wX6_here_57, wX6_here_58, wX6_here_61, wX6_here_62, amSI_1, amSI_2, amSI_3, amSI_s, amU_at, amIsR_ref, amIsR_null, amIsR_rf, amRf_some, amRf_none, amClr_int, amClr_ref, amClr_null, amClr_long, amClr_ra, amClr_rf, amFit_int, amFit_oref, amFit_aref, amFit_onull, amFit_anull, amOptSome, amOptNone, List.cons_append, List.nil_append, true_and, and_true, true_implies, not_true_eq_false, not_false_eq_true, false_implies, and_self, Nat.add_zero, Nat.zero_add, ne_eq, Prod.mk.injEq, amC01_0, amC01_1, amC01_nb, amNb0, amNb1, amTcpI_d, Nat.reduceLeDiff, Nat.reduceAdd, Nat.reduceSub, Nat.reduceEqDiff, Nat.le_refl, amN0le, hR.s, hR.r, amLeI, amLtI, amEqI, amLe0, amGt0, amEq0, amNotPosI, amGe0, amVI, amCl_nI, amAdd, amSub, amMul, i1, m7, mt, q, c]
        exact nx
      · rw [if_neg c] at hk
        have key := hk m i1 i2
        refine goX6_here hF 60 ?_
        simp (disch := omega) only [wX6_here_0, uX6_here_0, wX6_here_1, wX6_here_4, wX6_here_5, wX6_here_8, wX6_here_11, wX6_here_12, wX6_here_15, wX6_here_16, wX6_here_19, wX6_here_20, wX6_here_22, wX6_here_25, wX6_here_26, wX6_here_27, wX6_here_30, wX6_here_31, wX6_here_32, wX6_here_35, wX6_here_38, wX6_here_39, wX6_here_42, wX6_here_43, wX6_here_46, wX6_here_49, wX6_here_50, wX6_here_53, wX6_here_54, wX6_here_57, wX6_here_58, wX6_here_61, wX6_here_62, amSI_1, amSI_2, amSI_3, amSI_s, amU_at, amIsR_ref, amIsR_null, amIsR_rf, amRf_some, amRf_none, amClr_int, amClr_ref, amClr_null, amClr_long, amClr_ra, amClr_rf, amFit_int, amFit_oref, amFit_aref, amFit_onull, amFit_anull, amOptSome, amOptNone, List.cons_append, List.nil_append, true_and, and_true, true_implies, not_true_eq_false, not_false_eq_true, false_implies, and_self, Nat.add_zero, Nat.zero_add, ne_eq, Prod.mk.injEq, amC01_0, amC01_1, amC01_nb, amNb0, amNb1, amTcpI_d, Nat.reduceLeDiff, Nat.reduceAdd, Nat.reduceSub, Nat.reduceEqDiff, Nat.le_refl, amN0le, hR.s, hR.r, amLeI, amLtI, amEqI, amLe0, amGt0, amEq0, amNotPosI, amGe0, amVI, amCl_nI, amAdd, amSub, amMul, i1, m7, mt, q, c]
        exact amRet.of (by decide) (by decide) key
  have nx := loop (t.length - p) p h.2.1 (by omega) hp (plFr.rf _) hK
  exact nx
theorem mHere {h : amH} {t : List Nat} {p : Nat} {K : Option Value → amH → Prop} (hR : mdAt h) (hT : TxM h.2.1 t) (hp : h.2.1 124 25 = nI p) (pl : p ≤ t.length) (k : ∀ m', m' 124 25 = nI (skip t p) → plFr h.2.1 m' → K (some (.int (nI (t.getD (skip t p) 0)))) (amSI h m')) : tX6_here [.ref 124] h K := ⟨t, p, rfl, hR, hT, hp, pl, k⟩
def tX6_isAt : amT := fun as h K => match as with
  | [.ref a, .int p0, .int l0, .int u0] => ∃ (t : List Nat) (p l u : Nat), a = (124 : Nat) ∧ mdAt h ∧ TxM h.2.1 t ∧ p0 = nI p ∧ p ≤ t.length ∧ l0 = nI l ∧ u0 = nI u ∧ 0 < l ∧ l < 1000 ∧ u < 1000 ∧ K (some (.int (amC01 (l ≤ t.getD p 0 ∧ t.getD p 0 ≤ u)))) h
  | _ => False
/-! ReadingStagesModel.isAt(III)Z -/
def kX6_isAt : Nat → Bool := fun pc => false
def rX6_isAt : List (Nat × amS) := [(2, 1, 0, 0, amTget 6 7), (9, 1, 0, 0, amTget 6 6), (19, 3, 0, 0, tX6_in)]
def eX6_isAt (ret : Option Value → amH → Nat → Nat → Prop) (F : amX) : Nat → amX := amWp cX6_isAt kX6_isAt (amLk rX6_isAt) (some .boolean) 0 0 ret F
def sX6_isAt (ret : Option Value → amH → Nat → Nat → Prop) (F : amX) : Nat → amX := amWs cX6_isAt kX6_isAt (amLk rX6_isAt) (some .boolean) 0 0 ret F
theorem wX6_isAt_0 {ret F n h} {v0 v2 v3 st x} : eX6_isAt ret F (n + 1) 0 [v0, .int x, v2, v3] (st) h 0 0 = (eX6_isAt ret F n 1 [v0, .int x, v2, v3] (.int x :: st) h 0 0) := (amWp_dec rfl dX6_isAt_0 rfl).trans rfl
theorem uX6_isAt_0 {ret F n h} {v0 v2 v3 st x} : sX6_isAt ret F n 0 [v0, .int x, v2, v3] (st) h 0 0 = (eX6_isAt ret F n 1 [v0, .int x, v2, v3] (.int x :: st) h 0 0) := (amWs_dec dX6_isAt_0 rfl).trans rfl
theorem wX6_isAt_1 {ret F n h} {v0 v1 v2 v3 st} : eX6_isAt ret F (n + 1) 1 [v0, v1, v2, v3] (st) h 0 0 = (amIsR v0 ∧ eX6_isAt ret F n 2 [v0, v1, v2, v3] (v0 :: st) h 0 0) := (amWp_dec rfl dX6_isAt_1 rfl).trans rfl
theorem wX6_isAt_2 {ret F n h} {v0 v1 v2 v3 r0 a} : eX6_isAt ret F (n + 1) 2 [v0, v1, v2, v3] (.ref a :: r0 :: []) h 0 0 = (h.1 a = (0, 6) ∧ eX6_isAt ret F n 5 [v0, v1, v2, v3] (.int (h.2.1 a 7) :: r0 :: []) h 0 0) := (amWp_dec rfl dX6_isAt_2 rfl).trans (amS4 (Nat.le_of_ble_eq_true rfl) (Nat.le_of_ble_eq_true rfl) (Nat.le_of_ble_eq_true rfl) (Nat.le_of_ble_eq_true rfl))
theorem wX6_isAt_5 {ret F n h} {v0 v1 v2 v3 st y x} : eX6_isAt ret F (n + 1) 5 [v0, v1, v2, v3] (.int y :: .int x :: st) h 0 0 = ((y ≤ x → eX6_isAt ret F n 29 [v0, v1, v2, v3] (st) h 0 0) ∧ (¬ y ≤ x → eX6_isAt ret F n 8 [v0, v1, v2, v3] (st) h 0 0)) := (amWp_dec rfl dX6_isAt_5 rfl).trans rfl
theorem wX6_isAt_8 {ret F n h} {v0 v1 v2 v3 st} : eX6_isAt ret F (n + 1) 8 [v0, v1, v2, v3] (st) h 0 0 = (amIsR v0 ∧ eX6_isAt ret F n 9 [v0, v1, v2, v3] (v0 :: st) h 0 0) := (amWp_dec rfl dX6_isAt_8 rfl).trans rfl
theorem wX6_isAt_9 {ret F n h} {v0 v1 v2 v3 a} : eX6_isAt ret F (n + 1) 9 [v0, v1, v2, v3] (.ref a :: []) h 0 0 = (h.1 a = (0, 6) ∧ eX6_isAt ret F n 12 [v0, v1, v2, v3] (va_rf (h.2.2.2.1 a 6) :: []) h 0 0) := (amWp_dec rfl dX6_isAt_9 rfl).trans (amS4 (Nat.le_of_ble_eq_true rfl) (Nat.le_of_ble_eq_true rfl) (Nat.le_of_ble_eq_true rfl) (Nat.le_of_ble_eq_true rfl))
theorem wX6_isAt_12 {ret F n h} {v0 v2 v3 st x} : eX6_isAt ret F (n + 1) 12 [v0, .int x, v2, v3] (st) h 0 0 = (eX6_isAt ret F n 13 [v0, .int x, v2, v3] (.int x :: st) h 0 0) := (amWp_dec rfl dX6_isAt_12 rfl).trans rfl
theorem wX6_isAt_13 {ret F n h} {v0 v1 v2 v3 st x a} : eX6_isAt ret F (n + 1) 13 [v0, v1, v2, v3] (.int x :: .ref a :: st) h 0 0 = ((h.1 a).1 = 1 ∧ vp_in x (h.1 a).2 ∧ eX6_isAt ret F n 14 [v0, v1, v2, v3] (.int (h.2.1 a x.toNatClampNeg) :: st) h 0 0) := (amWp_dec rfl dX6_isAt_13 rfl).trans rfl
theorem wX6_isAt_14 {ret F n h} {v0 v1 v2 v3 st x} : eX6_isAt ret F (n + 1) 14 [v0, v1, v2, v3] (.int x :: st) h 0 0 = (eX6_isAt ret F n 15 [v0, v1, v2, v3] (.long x.toInt64 :: st) h 0 0) := (amWp_dec rfl dX6_isAt_14 rfl).trans rfl
theorem wX6_isAt_15 {ret F n h} {v0 v1 v3 st x} : eX6_isAt ret F (n + 1) 15 [v0, v1, .int x, v3] (st) h 0 0 = (eX6_isAt ret F n 16 [v0, v1, .int x, v3] (.int x :: st) h 0 0) := (amWp_dec rfl dX6_isAt_15 rfl).trans rfl
theorem wX6_isAt_16 {ret F n h} {v0 v1 v2 v3 st x} : eX6_isAt ret F (n + 1) 16 [v0, v1, v2, v3] (.int x :: st) h 0 0 = (eX6_isAt ret F n 17 [v0, v1, v2, v3] (.long x.toInt64 :: st) h 0 0) := (amWp_dec rfl dX6_isAt_16 rfl).trans rfl
theorem wX6_isAt_17 {ret F n h} {v0 v1 v2 st x} : eX6_isAt ret F (n + 1) 17 [v0, v1, v2, .int x] (st) h 0 0 = (eX6_isAt ret F n 18 [v0, v1, v2, .int x] (.int x :: st) h 0 0) := (amWp_dec rfl dX6_isAt_17 rfl).trans rfl
theorem wX6_isAt_18 {ret F n h} {v0 v1 v2 v3 st x} : eX6_isAt ret F (n + 1) 18 [v0, v1, v2, v3] (.int x :: st) h 0 0 = (eX6_isAt ret F n 19 [v0, v1, v2, v3] (.long x.toInt64 :: st) h 0 0) := (amWp_dec rfl dX6_isAt_18 rfl).trans rfl
theorem wX6_isAt_19 {ret F n h} {v0 v1 v2 v3 x2 x1 x0} : eX6_isAt ret F (n + 1) 19 [v0, v1, v2, v3] (.long x2 :: .long x1 :: .long x0 :: []) h 0 0 = (tX6_in [.long x0, .long x1, .long x2] h (fun v h => eX6_isAt ret F n 22 [v0, v1, v2, v3] (v.toList ++ ([])) h 0 0)) := (amWp_dec rfl dX6_isAt_19 rfl).trans (amS4 (Nat.le_of_ble_eq_true rfl) (Nat.le_of_ble_eq_true rfl) (Nat.le_of_ble_eq_true rfl) (Nat.le_of_ble_eq_true rfl))
theorem wX6_isAt_22 {ret F n h} {v0 v1 v2 v3 st x} : eX6_isAt ret F (n + 1) 22 [v0, v1, v2, v3] (.int x :: st) h 0 0 = ((x = 0 → eX6_isAt ret F n 29 [v0, v1, v2, v3] (st) h 0 0) ∧ (¬ x = 0 → eX6_isAt ret F n 25 [v0, v1, v2, v3] (st) h 0 0)) := (amWp_dec rfl dX6_isAt_22 rfl).trans rfl
theorem wX6_isAt_25 {ret F n h} {v0 v1 v2 v3 st} : eX6_isAt ret F (n + 1) 25 [v0, v1, v2, v3] (st) h 0 0 = (eX6_isAt ret F n 26 [v0, v1, v2, v3] (.int (nI 1) :: st) h 0 0) := (amWp_dec rfl dX6_isAt_25 rfl).trans rfl
theorem wX6_isAt_26 {ret F n h} {v0 v1 v2 v3 st} : eX6_isAt ret F (n + 1) 26 [v0, v1, v2, v3] (st) h 0 0 = (eX6_isAt ret F n 30 [v0, v1, v2, v3] (st) h 0 0) := (amWp_dec rfl dX6_isAt_26 rfl).trans rfl
theorem wX6_isAt_29 {ret F n h} {v0 v1 v2 v3 st} : eX6_isAt ret F (n + 1) 29 [v0, v1, v2, v3] (st) h 0 0 = (eX6_isAt ret F n 30 [v0, v1, v2, v3] (.int (nI 0) :: st) h 0 0) := (amWp_dec rfl dX6_isAt_29 rfl).trans rfl
theorem wX6_isAt_30 {ret F n h} {v0 v1 v2 v3 x} : eX6_isAt ret F (n + 1) 30 [v0, v1, v2, v3] ([.int x]) h 0 0 = (narrow .boolean (.int x) = .int x ∧ ret (some (.int x)) h 0 0) := (amWp_dec rfl dX6_isAt_30 rfl).trans (amRetTy)
theorem evX6_isAt (l : Launch) (G : amG) : ∀ pc S i sz, amLk rX6_isAt pc = some S → decode cX6_isAt pc = .ok (i, sz) → amSiteP pc G l yX6_isAt.cls yX6_isAt.name yX6_isAt.desc (amRm 2 0 0) i sz S.1 S.2.1 S.2.2.1 S.2.2.2 := amLk_ok (by
  refine List.forall_mem_cons.mpr ⟨⟨_, _, dX6_isAt_2, amSite.P (amSiteGet ⟨_, rfl, by decide, Or.inl q1302⟩)⟩, ?_⟩
  refine List.forall_mem_cons.mpr ⟨⟨_, _, dX6_isAt_9, amSite.P (amSiteGet ⟨_, rfl, by decide, Or.inl q1301⟩)⟩, ?_⟩
  refine List.forall_mem_cons.mpr ⟨⟨_, _, dX6_isAt_19, amSite.P (amSiteS (metX6_in l G) rfl (by decide) (by decide) (lw_S q1381 q1382 q94 q1383) ⟨by decide +kernel, by decide +kernel, by decide +kernel⟩)⟩, ?_⟩
  exact fun _ h => absurd h List.not_mem_nil)
theorem goX6_isAt {ret F} (hF : amCld cX6_isAt kX6_isAt (amLk rX6_isAt) (some .boolean) 0 0 ret F) (n : Nat) {pc ls st h k z} (q : sX6_isAt ret F n pc ls st h k z) : F pc ls st h k z := hF.1 n pc ls st h k z q
theorem metX6_isAt (l : Launch) (G : amG) : amMet l G yX6_isAt (ws_ yX6_isAt cX6_isAt 4 (some .boolean)) 2 0 0 tX6_isAt := by
  refine amMet_of (cut := kX6_isAt) (by decide +kernel) (evX6_isAt l G) ?_
  intro as h K hT
  match as, hT with
  | [.ref a, .int p0, .int l0, .int u0], ⟨t, p, l, u, e, hR, ⟨⟨t90, tn, tt⟩, hO⟩, e1, pl, e2, e3, l00, l1, u1, hK⟩ =>
  refine ⟨Nat.le_of_ble_eq_true rfl, fun F hF => ?_⟩
  show F 0 [.ref a, .int p0, .int l0, .int u0] [] h 0 0
  obtain ⟨a, rfl⟩ : ∃ i : Nat, i = a := ⟨_, rfl⟩
  subst e e1 e2 e3
  have lt := hO.le p
  have kf : ¬ (l ≤ t.getD p 0 ∧ t.getD p 0 ≤ u) → amRet 0 0 K (some (.int (nI 0))) h 0 0 := fun z => by
    rw [amC01_f z] at hK
    exact amRet.of (by decide) (by decide) hK
  have kt : (l ≤ t.getD p 0 ∧ t.getD p 0 ≤ u) → amRet 0 0 K (some (.int (nI 1))) h 0 0 := fun z => by
    rw [amC01_t z] at hK
    exact amRet.of (by decide) (by decide) hK
  refine goX6_isAt hF 60 ?_
  by_cases q : p < t.length
  · have q' : (t.length ≤ p) = False := eq_false (by omega)
    have mt := tt p q
    simp (disch := omega) only [wX6_isAt_0, uX6_isAt_0, wX6_isAt_1, wX6_isAt_2, wX6_isAt_5, wX6_isAt_8, wX6_isAt_9, wX6_isAt_12, wX6_isAt_13, wX6_isAt_14, wX6_isAt_15, wX6_isAt_16, wX6_isAt_17, wX6_isAt_18, wX6_isAt_19, wX6_isAt_22, wX6_isAt_25, wX6_isAt_26, wX6_isAt_29, wX6_isAt_30, amSI_1, amSI_2, amSI_3, amSI_s, amU_at, amIsR_ref, amIsR_null, amIsR_rf, amRf_some, amRf_none, amClr_int, amClr_ref, amClr_null, amClr_long, amClr_ra, amClr_rf, amFit_int, amFit_oref, amFit_aref, amFit_onull, amFit_anull, amOptSome, amOptNone, List.cons_append, List.nil_append, true_and, and_true, true_implies, not_true_eq_false, not_false_eq_true, false_implies, and_self, Nat.add_zero, Nat.zero_add, ne_eq, Prod.mk.injEq, amC01_0, amC01_1, amC01_nb, amNb0, amNb1, amTcpI_d, Nat.reduceLeDiff, Nat.reduceAdd, Nat.reduceSub, Nat.reduceEqDiff, Nat.le_refl, amN0le, hR.s, hR.r, amLeI, amLtI, amEqI, amLe0, amGt0, amEq0, amNotPosI, amGe0, amVI, amCl_nI, amAdd, amSub, amMul, tn, mt, q', tX6_in_d, am64, lN_leB]
    exact ⟨kf, fun z => kt (Classical.not_not.mp z)⟩
  · have q' : (t.length ≤ p) = True := eq_true (by omega)
    have key := kf (by rw [chr_out (by omega)]; omega)
    simp (disch := omega) only [wX6_isAt_0, uX6_isAt_0, wX6_isAt_1, wX6_isAt_2, wX6_isAt_5, wX6_isAt_8, wX6_isAt_9, wX6_isAt_12, wX6_isAt_13, wX6_isAt_14, wX6_isAt_15, wX6_isAt_16, wX6_isAt_17, wX6_isAt_18, wX6_isAt_19, wX6_isAt_22, wX6_isAt_25, wX6_isAt_26, wX6_isAt_29, wX6_isAt_30, amSI_1, amSI_2, amSI_3, amSI_s, amU_at, amIsR_ref, amIsR_null, amIsR_rf, amRf_some, amRf_none, amClr_int, amClr_ref, amClr_null, amClr_long, amClr_ra, amClr_rf, amFit_int, amFit_oref, amFit_aref, amFit_onull, amFit_anull, amOptSome, amOptNone, List.cons_append, List.nil_append, true_and, and_true, true_implies, not_true_eq_false, not_false_eq_true, false_implies, and_self, Nat.add_zero, Nat.zero_add, ne_eq, Prod.mk.injEq, amC01_0, amC01_1, amC01_nb, amNb0, amNb1, amTcpI_d, Nat.reduceLeDiff, Nat.reduceAdd, Nat.reduceSub, Nat.reduceEqDiff, Nat.le_refl, amN0le, hR.s, hR.r, amLeI, amLtI, amEqI, amLe0, amGt0, amEq0, amNotPosI, amGe0, amVI, amCl_nI, amAdd, amSub, amMul, tn, q']
    exact key
theorem mIsAt {h : amH} {t : List Nat} {p l u : Nat} {K : Option Value → amH → Prop} (hR : mdAt h) (hT : TxM h.2.1 t) (pl : p ≤ t.length) (l0 : 0 < l) (l1 : l < 1000) (u1 : u < 1000) (k : K (some (.int (amC01 (l ≤ t.getD p 0 ∧ t.getD p 0 ≤ u)))) h) : tX6_isAt [.ref 124, .int (nI p), .int (nI l), .int (nI u)] h K := ⟨t, p, l, u, rfl, hR, hT, rfl, pl, rfl, rfl, l0, l1, u1, k⟩
abbrev hd4 (t : List Nat) (p n a b c d : Nat) : Prop := p + n ≤ t.length ∧ t.getD p 0 = a ∧ t.getD (p + 1) 0 = b ∧ t.getD (p + 2) 0 = c ∧ t.getD (p + 3) 0 = d ∧ ¬ (97 ≤ t.getD (p + n) 0 ∧ t.getD (p + n) 0 ≤ 122)
def tX6_isWord : amT := fun as h K => match as with
  | [.ref x, .int n0, .int a0, .int b0, .int c0, .int d0] => ∃ (t : List Nat) (p n a b c d : Nat), x = (124 : Nat) ∧ mdAt h ∧ TxM h.2.1 t ∧ h.2.1 124 25 = nI p ∧ p ≤ t.length ∧ n0 = nI n ∧ a0 = nI a ∧ b0 = nI b ∧ c0 = nI c ∧ d0 = nI d ∧ 4 ≤ n ∧ n ≤ 10 ∧ a < 1000 ∧ b < 1000 ∧ c < 1000 ∧ d < 1000 ∧ K (some (.int (amC01 (hd4 t p n a b c d)))) h
  | _ => False
/-! ReadingStagesModel.isWord(IIIII)Z -/
def kX6_isWord : Nat → Bool := fun pc => false
def rX6_isWord : List (Nat × amS) := [(1, 1, 0, 0, amTget 6 25), (7, 1, 0, 0, amTget 6 7), (14, 1, 0, 0, amTget 6 6), (18, 1, 0, 0, amTget 6 25), (27, 1, 0, 0, amTget 6 6), (31, 1, 0, 0, amTget 6 25), (42, 1, 0, 0, amTget 6 6), (46, 1, 0, 0, amTget 6 25), (58, 1, 0, 0, amTget 6 6), (62, 1, 0, 0, amTget 6 25), (75, 1, 0, 0, amTget 6 25), (84, 4, 0, 0, (amRecv 6 tX6_isAt))]
def eX6_isWord (ret : Option Value → amH → Nat → Nat → Prop) (F : amX) : Nat → amX := amWp cX6_isWord kX6_isWord (amLk rX6_isWord) (some .boolean) 0 0 ret F
def sX6_isWord (ret : Option Value → amH → Nat → Nat → Prop) (F : amX) : Nat → amX := amWs cX6_isWord kX6_isWord (amLk rX6_isWord) (some .boolean) 0 0 ret F
theorem wX6_isWord_0 {ret F n h} {v0 v1 v2 v3 v4 v5 st} : eX6_isWord ret F (n + 1) 0 [v0, v1, v2, v3, v4, v5] (st) h 0 0 = (amIsR v0 ∧ eX6_isWord ret F n 1 [v0, v1, v2, v3, v4, v5] (v0 :: st) h 0 0) := (amWp_dec rfl dX6_isWord_0 rfl).trans rfl
theorem uX6_isWord_0 {ret F n h} {v0 v1 v2 v3 v4 v5 st} : sX6_isWord ret F n 0 [v0, v1, v2, v3, v4, v5] (st) h 0 0 = (amIsR v0 ∧ eX6_isWord ret F n 1 [v0, v1, v2, v3, v4, v5] (v0 :: st) h 0 0) := (amWs_dec dX6_isWord_0 rfl).trans rfl
theorem wX6_isWord_1 {ret F n h} {v0 v1 v2 v3 v4 v5 a} : eX6_isWord ret F (n + 1) 1 [v0, v1, v2, v3, v4, v5] (.ref a :: []) h 0 0 = (h.1 a = (0, 6) ∧ eX6_isWord ret F n 4 [v0, v1, v2, v3, v4, v5] (.int (h.2.1 a 25) :: []) h 0 0) := (amWp_dec rfl dX6_isWord_1 rfl).trans (amS4 (Nat.le_of_ble_eq_true rfl) (Nat.le_of_ble_eq_true rfl) (Nat.le_of_ble_eq_true rfl) (Nat.le_of_ble_eq_true rfl))
theorem wX6_isWord_4 {ret F n h} {v0 v2 v3 v4 v5 st x} : eX6_isWord ret F (n + 1) 4 [v0, .int x, v2, v3, v4, v5] (st) h 0 0 = (eX6_isWord ret F n 5 [v0, .int x, v2, v3, v4, v5] (.int x :: st) h 0 0) := (amWp_dec rfl dX6_isWord_4 rfl).trans rfl
theorem wX6_isWord_5 {ret F n h} {v0 v1 v2 v3 v4 v5 st y x} : eX6_isWord ret F (n + 1) 5 [v0, v1, v2, v3, v4, v5] (.int y :: .int x :: st) h 0 0 = (eX6_isWord ret F n 6 [v0, v1, v2, v3, v4, v5] (.int (x + y) :: st) h 0 0) := (amWp_dec rfl dX6_isWord_5 rfl).trans rfl
theorem wX6_isWord_6 {ret F n h} {v0 v1 v2 v3 v4 v5 st} : eX6_isWord ret F (n + 1) 6 [v0, v1, v2, v3, v4, v5] (st) h 0 0 = (amIsR v0 ∧ eX6_isWord ret F n 7 [v0, v1, v2, v3, v4, v5] (v0 :: st) h 0 0) := (amWp_dec rfl dX6_isWord_6 rfl).trans rfl
theorem wX6_isWord_7 {ret F n h} {v0 v1 v2 v3 v4 v5 r0 a} : eX6_isWord ret F (n + 1) 7 [v0, v1, v2, v3, v4, v5] (.ref a :: r0 :: []) h 0 0 = (h.1 a = (0, 6) ∧ eX6_isWord ret F n 10 [v0, v1, v2, v3, v4, v5] (.int (h.2.1 a 7) :: r0 :: []) h 0 0) := (amWp_dec rfl dX6_isWord_7 rfl).trans (amS4 (Nat.le_of_ble_eq_true rfl) (Nat.le_of_ble_eq_true rfl) (Nat.le_of_ble_eq_true rfl) (Nat.le_of_ble_eq_true rfl))
theorem wX6_isWord_10 {ret F n h} {v0 v1 v2 v3 v4 v5 st y x} : eX6_isWord ret F (n + 1) 10 [v0, v1, v2, v3, v4, v5] (.int y :: .int x :: st) h 0 0 = ((y < x → eX6_isWord ret F n 94 [v0, v1, v2, v3, v4, v5] (st) h 0 0) ∧ (¬ y < x → eX6_isWord ret F n 13 [v0, v1, v2, v3, v4, v5] (st) h 0 0)) := (amWp_dec rfl dX6_isWord_10 rfl).trans rfl
theorem wX6_isWord_13 {ret F n h} {v0 v1 v2 v3 v4 v5 st} : eX6_isWord ret F (n + 1) 13 [v0, v1, v2, v3, v4, v5] (st) h 0 0 = (amIsR v0 ∧ eX6_isWord ret F n 14 [v0, v1, v2, v3, v4, v5] (v0 :: st) h 0 0) := (amWp_dec rfl dX6_isWord_13 rfl).trans rfl
theorem wX6_isWord_14 {ret F n h} {v0 v1 v2 v3 v4 v5 a} : eX6_isWord ret F (n + 1) 14 [v0, v1, v2, v3, v4, v5] (.ref a :: []) h 0 0 = (h.1 a = (0, 6) ∧ eX6_isWord ret F n 17 [v0, v1, v2, v3, v4, v5] (va_rf (h.2.2.2.1 a 6) :: []) h 0 0) := (amWp_dec rfl dX6_isWord_14 rfl).trans (amS4 (Nat.le_of_ble_eq_true rfl) (Nat.le_of_ble_eq_true rfl) (Nat.le_of_ble_eq_true rfl) (Nat.le_of_ble_eq_true rfl))
theorem wX6_isWord_17 {ret F n h} {v0 v1 v2 v3 v4 v5 st} : eX6_isWord ret F (n + 1) 17 [v0, v1, v2, v3, v4, v5] (st) h 0 0 = (amIsR v0 ∧ eX6_isWord ret F n 18 [v0, v1, v2, v3, v4, v5] (v0 :: st) h 0 0) := (amWp_dec rfl dX6_isWord_17 rfl).trans rfl
theorem wX6_isWord_18 {ret F n h} {v0 v1 v2 v3 v4 v5 r0 a} : eX6_isWord ret F (n + 1) 18 [v0, v1, v2, v3, v4, v5] (.ref a :: r0 :: []) h 0 0 = (h.1 a = (0, 6) ∧ eX6_isWord ret F n 21 [v0, v1, v2, v3, v4, v5] (.int (h.2.1 a 25) :: r0 :: []) h 0 0) := (amWp_dec rfl dX6_isWord_18 rfl).trans (amS4 (Nat.le_of_ble_eq_true rfl) (Nat.le_of_ble_eq_true rfl) (Nat.le_of_ble_eq_true rfl) (Nat.le_of_ble_eq_true rfl))
theorem wX6_isWord_21 {ret F n h} {v0 v1 v2 v3 v4 v5 st x a} : eX6_isWord ret F (n + 1) 21 [v0, v1, v2, v3, v4, v5] (.int x :: .ref a :: st) h 0 0 = ((h.1 a).1 = 1 ∧ vp_in x (h.1 a).2 ∧ eX6_isWord ret F n 22 [v0, v1, v2, v3, v4, v5] (.int (h.2.1 a x.toNatClampNeg) :: st) h 0 0) := (amWp_dec rfl dX6_isWord_21 rfl).trans rfl
theorem wX6_isWord_22 {ret F n h} {v0 v1 v3 v4 v5 st x} : eX6_isWord ret F (n + 1) 22 [v0, v1, .int x, v3, v4, v5] (st) h 0 0 = (eX6_isWord ret F n 23 [v0, v1, .int x, v3, v4, v5] (.int x :: st) h 0 0) := (amWp_dec rfl dX6_isWord_22 rfl).trans rfl
theorem wX6_isWord_23 {ret F n h} {v0 v1 v2 v3 v4 v5 st y x} : eX6_isWord ret F (n + 1) 23 [v0, v1, v2, v3, v4, v5] (.int y :: .int x :: st) h 0 0 = ((¬ x = y → eX6_isWord ret F n 94 [v0, v1, v2, v3, v4, v5] (st) h 0 0) ∧ (x = y → eX6_isWord ret F n 26 [v0, v1, v2, v3, v4, v5] (st) h 0 0)) := (amWp_dec rfl dX6_isWord_23 rfl).trans rfl
theorem wX6_isWord_26 {ret F n h} {v0 v1 v2 v3 v4 v5 st} : eX6_isWord ret F (n + 1) 26 [v0, v1, v2, v3, v4, v5] (st) h 0 0 = (amIsR v0 ∧ eX6_isWord ret F n 27 [v0, v1, v2, v3, v4, v5] (v0 :: st) h 0 0) := (amWp_dec rfl dX6_isWord_26 rfl).trans rfl
theorem wX6_isWord_27 {ret F n h} {v0 v1 v2 v3 v4 v5 a} : eX6_isWord ret F (n + 1) 27 [v0, v1, v2, v3, v4, v5] (.ref a :: []) h 0 0 = (h.1 a = (0, 6) ∧ eX6_isWord ret F n 30 [v0, v1, v2, v3, v4, v5] (va_rf (h.2.2.2.1 a 6) :: []) h 0 0) := (amWp_dec rfl dX6_isWord_27 rfl).trans (amS4 (Nat.le_of_ble_eq_true rfl) (Nat.le_of_ble_eq_true rfl) (Nat.le_of_ble_eq_true rfl) (Nat.le_of_ble_eq_true rfl))
theorem wX6_isWord_30 {ret F n h} {v0 v1 v2 v3 v4 v5 st} : eX6_isWord ret F (n + 1) 30 [v0, v1, v2, v3, v4, v5] (st) h 0 0 = (amIsR v0 ∧ eX6_isWord ret F n 31 [v0, v1, v2, v3, v4, v5] (v0 :: st) h 0 0) := (amWp_dec rfl dX6_isWord_30 rfl).trans rfl
theorem wX6_isWord_31 {ret F n h} {v0 v1 v2 v3 v4 v5 r0 a} : eX6_isWord ret F (n + 1) 31 [v0, v1, v2, v3, v4, v5] (.ref a :: r0 :: []) h 0 0 = (h.1 a = (0, 6) ∧ eX6_isWord ret F n 34 [v0, v1, v2, v3, v4, v5] (.int (h.2.1 a 25) :: r0 :: []) h 0 0) := (amWp_dec rfl dX6_isWord_31 rfl).trans (amS4 (Nat.le_of_ble_eq_true rfl) (Nat.le_of_ble_eq_true rfl) (Nat.le_of_ble_eq_true rfl) (Nat.le_of_ble_eq_true rfl))
theorem wX6_isWord_34 {ret F n h} {v0 v1 v2 v3 v4 v5 st} : eX6_isWord ret F (n + 1) 34 [v0, v1, v2, v3, v4, v5] (st) h 0 0 = (eX6_isWord ret F n 35 [v0, v1, v2, v3, v4, v5] (.int (nI 1) :: st) h 0 0) := (amWp_dec rfl dX6_isWord_34 rfl).trans rfl
theorem wX6_isWord_35 {ret F n h} {v0 v1 v2 v3 v4 v5 st y x} : eX6_isWord ret F (n + 1) 35 [v0, v1, v2, v3, v4, v5] (.int y :: .int x :: st) h 0 0 = (eX6_isWord ret F n 36 [v0, v1, v2, v3, v4, v5] (.int (x + y) :: st) h 0 0) := (amWp_dec rfl dX6_isWord_35 rfl).trans rfl
theorem wX6_isWord_36 {ret F n h} {v0 v1 v2 v3 v4 v5 st x a} : eX6_isWord ret F (n + 1) 36 [v0, v1, v2, v3, v4, v5] (.int x :: .ref a :: st) h 0 0 = ((h.1 a).1 = 1 ∧ vp_in x (h.1 a).2 ∧ eX6_isWord ret F n 37 [v0, v1, v2, v3, v4, v5] (.int (h.2.1 a x.toNatClampNeg) :: st) h 0 0) := (amWp_dec rfl dX6_isWord_36 rfl).trans rfl
theorem wX6_isWord_37 {ret F n h} {v0 v1 v2 v4 v5 st x} : eX6_isWord ret F (n + 1) 37 [v0, v1, v2, .int x, v4, v5] (st) h 0 0 = (eX6_isWord ret F n 38 [v0, v1, v2, .int x, v4, v5] (.int x :: st) h 0 0) := (amWp_dec rfl dX6_isWord_37 rfl).trans rfl
theorem wX6_isWord_38 {ret F n h} {v0 v1 v2 v3 v4 v5 st y x} : eX6_isWord ret F (n + 1) 38 [v0, v1, v2, v3, v4, v5] (.int y :: .int x :: st) h 0 0 = ((¬ x = y → eX6_isWord ret F n 94 [v0, v1, v2, v3, v4, v5] (st) h 0 0) ∧ (x = y → eX6_isWord ret F n 41 [v0, v1, v2, v3, v4, v5] (st) h 0 0)) := (amWp_dec rfl dX6_isWord_38 rfl).trans rfl
theorem wX6_isWord_41 {ret F n h} {v0 v1 v2 v3 v4 v5 st} : eX6_isWord ret F (n + 1) 41 [v0, v1, v2, v3, v4, v5] (st) h 0 0 = (amIsR v0 ∧ eX6_isWord ret F n 42 [v0, v1, v2, v3, v4, v5] (v0 :: st) h 0 0) := (amWp_dec rfl dX6_isWord_41 rfl).trans rfl
theorem wX6_isWord_42 {ret F n h} {v0 v1 v2 v3 v4 v5 a} : eX6_isWord ret F (n + 1) 42 [v0, v1, v2, v3, v4, v5] (.ref a :: []) h 0 0 = (h.1 a = (0, 6) ∧ eX6_isWord ret F n 45 [v0, v1, v2, v3, v4, v5] (va_rf (h.2.2.2.1 a 6) :: []) h 0 0) := (amWp_dec rfl dX6_isWord_42 rfl).trans (amS4 (Nat.le_of_ble_eq_true rfl) (Nat.le_of_ble_eq_true rfl) (Nat.le_of_ble_eq_true rfl) (Nat.le_of_ble_eq_true rfl))
theorem wX6_isWord_45 {ret F n h} {v0 v1 v2 v3 v4 v5 st} : eX6_isWord ret F (n + 1) 45 [v0, v1, v2, v3, v4, v5] (st) h 0 0 = (amIsR v0 ∧ eX6_isWord ret F n 46 [v0, v1, v2, v3, v4, v5] (v0 :: st) h 0 0) := (amWp_dec rfl dX6_isWord_45 rfl).trans rfl
theorem wX6_isWord_46 {ret F n h} {v0 v1 v2 v3 v4 v5 r0 a} : eX6_isWord ret F (n + 1) 46 [v0, v1, v2, v3, v4, v5] (.ref a :: r0 :: []) h 0 0 = (h.1 a = (0, 6) ∧ eX6_isWord ret F n 49 [v0, v1, v2, v3, v4, v5] (.int (h.2.1 a 25) :: r0 :: []) h 0 0) := (amWp_dec rfl dX6_isWord_46 rfl).trans (amS4 (Nat.le_of_ble_eq_true rfl) (Nat.le_of_ble_eq_true rfl) (Nat.le_of_ble_eq_true rfl) (Nat.le_of_ble_eq_true rfl))
theorem wX6_isWord_49 {ret F n h} {v0 v1 v2 v3 v4 v5 st} : eX6_isWord ret F (n + 1) 49 [v0, v1, v2, v3, v4, v5] (st) h 0 0 = (eX6_isWord ret F n 50 [v0, v1, v2, v3, v4, v5] (.int (nI 2) :: st) h 0 0) := (amWp_dec rfl dX6_isWord_49 rfl).trans rfl
theorem wX6_isWord_50 {ret F n h} {v0 v1 v2 v3 v4 v5 st y x} : eX6_isWord ret F (n + 1) 50 [v0, v1, v2, v3, v4, v5] (.int y :: .int x :: st) h 0 0 = (eX6_isWord ret F n 51 [v0, v1, v2, v3, v4, v5] (.int (x + y) :: st) h 0 0) := (amWp_dec rfl dX6_isWord_50 rfl).trans rfl
theorem wX6_isWord_51 {ret F n h} {v0 v1 v2 v3 v4 v5 st x a} : eX6_isWord ret F (n + 1) 51 [v0, v1, v2, v3, v4, v5] (.int x :: .ref a :: st) h 0 0 = ((h.1 a).1 = 1 ∧ vp_in x (h.1 a).2 ∧ eX6_isWord ret F n 52 [v0, v1, v2, v3, v4, v5] (.int (h.2.1 a x.toNatClampNeg) :: st) h 0 0) := (amWp_dec rfl dX6_isWord_51 rfl).trans rfl
theorem wX6_isWord_52 {ret F n h} {v0 v1 v2 v3 v5 st x} : eX6_isWord ret F (n + 1) 52 [v0, v1, v2, v3, .int x, v5] (st) h 0 0 = (eX6_isWord ret F n 54 [v0, v1, v2, v3, .int x, v5] (.int x :: st) h 0 0) := (amWp_dec rfl dX6_isWord_52 rfl).trans rfl
theorem wX6_isWord_54 {ret F n h} {v0 v1 v2 v3 v4 v5 st y x} : eX6_isWord ret F (n + 1) 54 [v0, v1, v2, v3, v4, v5] (.int y :: .int x :: st) h 0 0 = ((¬ x = y → eX6_isWord ret F n 94 [v0, v1, v2, v3, v4, v5] (st) h 0 0) ∧ (x = y → eX6_isWord ret F n 57 [v0, v1, v2, v3, v4, v5] (st) h 0 0)) := (amWp_dec rfl dX6_isWord_54 rfl).trans rfl
theorem wX6_isWord_57 {ret F n h} {v0 v1 v2 v3 v4 v5 st} : eX6_isWord ret F (n + 1) 57 [v0, v1, v2, v3, v4, v5] (st) h 0 0 = (amIsR v0 ∧ eX6_isWord ret F n 58 [v0, v1, v2, v3, v4, v5] (v0 :: st) h 0 0) := (amWp_dec rfl dX6_isWord_57 rfl).trans rfl
theorem wX6_isWord_58 {ret F n h} {v0 v1 v2 v3 v4 v5 a} : eX6_isWord ret F (n + 1) 58 [v0, v1, v2, v3, v4, v5] (.ref a :: []) h 0 0 = (h.1 a = (0, 6) ∧ eX6_isWord ret F n 61 [v0, v1, v2, v3, v4, v5] (va_rf (h.2.2.2.1 a 6) :: []) h 0 0) := (amWp_dec rfl dX6_isWord_58 rfl).trans (amS4 (Nat.le_of_ble_eq_true rfl) (Nat.le_of_ble_eq_true rfl) (Nat.le_of_ble_eq_true rfl) (Nat.le_of_ble_eq_true rfl))
theorem wX6_isWord_61 {ret F n h} {v0 v1 v2 v3 v4 v5 st} : eX6_isWord ret F (n + 1) 61 [v0, v1, v2, v3, v4, v5] (st) h 0 0 = (amIsR v0 ∧ eX6_isWord ret F n 62 [v0, v1, v2, v3, v4, v5] (v0 :: st) h 0 0) := (amWp_dec rfl dX6_isWord_61 rfl).trans rfl
theorem wX6_isWord_62 {ret F n h} {v0 v1 v2 v3 v4 v5 r0 a} : eX6_isWord ret F (n + 1) 62 [v0, v1, v2, v3, v4, v5] (.ref a :: r0 :: []) h 0 0 = (h.1 a = (0, 6) ∧ eX6_isWord ret F n 65 [v0, v1, v2, v3, v4, v5] (.int (h.2.1 a 25) :: r0 :: []) h 0 0) := (amWp_dec rfl dX6_isWord_62 rfl).trans (amS4 (Nat.le_of_ble_eq_true rfl) (Nat.le_of_ble_eq_true rfl) (Nat.le_of_ble_eq_true rfl) (Nat.le_of_ble_eq_true rfl))
theorem wX6_isWord_65 {ret F n h} {v0 v1 v2 v3 v4 v5 st} : eX6_isWord ret F (n + 1) 65 [v0, v1, v2, v3, v4, v5] (st) h 0 0 = (eX6_isWord ret F n 66 [v0, v1, v2, v3, v4, v5] (.int (nI 3) :: st) h 0 0) := (amWp_dec rfl dX6_isWord_65 rfl).trans rfl
theorem wX6_isWord_66 {ret F n h} {v0 v1 v2 v3 v4 v5 st y x} : eX6_isWord ret F (n + 1) 66 [v0, v1, v2, v3, v4, v5] (.int y :: .int x :: st) h 0 0 = (eX6_isWord ret F n 67 [v0, v1, v2, v3, v4, v5] (.int (x + y) :: st) h 0 0) := (amWp_dec rfl dX6_isWord_66 rfl).trans rfl
theorem wX6_isWord_67 {ret F n h} {v0 v1 v2 v3 v4 v5 st x a} : eX6_isWord ret F (n + 1) 67 [v0, v1, v2, v3, v4, v5] (.int x :: .ref a :: st) h 0 0 = ((h.1 a).1 = 1 ∧ vp_in x (h.1 a).2 ∧ eX6_isWord ret F n 68 [v0, v1, v2, v3, v4, v5] (.int (h.2.1 a x.toNatClampNeg) :: st) h 0 0) := (amWp_dec rfl dX6_isWord_67 rfl).trans rfl
theorem wX6_isWord_68 {ret F n h} {v0 v1 v2 v3 v4 st x} : eX6_isWord ret F (n + 1) 68 [v0, v1, v2, v3, v4, .int x] (st) h 0 0 = (eX6_isWord ret F n 70 [v0, v1, v2, v3, v4, .int x] (.int x :: st) h 0 0) := (amWp_dec rfl dX6_isWord_68 rfl).trans rfl
theorem wX6_isWord_70 {ret F n h} {v0 v1 v2 v3 v4 v5 st y x} : eX6_isWord ret F (n + 1) 70 [v0, v1, v2, v3, v4, v5] (.int y :: .int x :: st) h 0 0 = ((¬ x = y → eX6_isWord ret F n 94 [v0, v1, v2, v3, v4, v5] (st) h 0 0) ∧ (x = y → eX6_isWord ret F n 73 [v0, v1, v2, v3, v4, v5] (st) h 0 0)) := (amWp_dec rfl dX6_isWord_70 rfl).trans rfl
theorem wX6_isWord_73 {ret F n h} {v0 v1 v2 v3 v4 v5 st} : eX6_isWord ret F (n + 1) 73 [v0, v1, v2, v3, v4, v5] (st) h 0 0 = (amIsR v0 ∧ eX6_isWord ret F n 74 [v0, v1, v2, v3, v4, v5] (v0 :: st) h 0 0) := (amWp_dec rfl dX6_isWord_73 rfl).trans rfl
theorem wX6_isWord_74 {ret F n h} {v0 v1 v2 v3 v4 v5 st} : eX6_isWord ret F (n + 1) 74 [v0, v1, v2, v3, v4, v5] (st) h 0 0 = (amIsR v0 ∧ eX6_isWord ret F n 75 [v0, v1, v2, v3, v4, v5] (v0 :: st) h 0 0) := (amWp_dec rfl dX6_isWord_74 rfl).trans rfl
theorem wX6_isWord_75 {ret F n h} {v0 v1 v2 v3 v4 v5 r0 a} : eX6_isWord ret F (n + 1) 75 [v0, v1, v2, v3, v4, v5] (.ref a :: r0 :: []) h 0 0 = (h.1 a = (0, 6) ∧ eX6_isWord ret F n 78 [v0, v1, v2, v3, v4, v5] (.int (h.2.1 a 25) :: r0 :: []) h 0 0) := (amWp_dec rfl dX6_isWord_75 rfl).trans (amS4 (Nat.le_of_ble_eq_true rfl) (Nat.le_of_ble_eq_true rfl) (Nat.le_of_ble_eq_true rfl) (Nat.le_of_ble_eq_true rfl))
theorem wX6_isWord_78 {ret F n h} {v0 v2 v3 v4 v5 st x} : eX6_isWord ret F (n + 1) 78 [v0, .int x, v2, v3, v4, v5] (st) h 0 0 = (eX6_isWord ret F n 79 [v0, .int x, v2, v3, v4, v5] (.int x :: st) h 0 0) := (amWp_dec rfl dX6_isWord_78 rfl).trans rfl
theorem wX6_isWord_79 {ret F n h} {v0 v1 v2 v3 v4 v5 st y x} : eX6_isWord ret F (n + 1) 79 [v0, v1, v2, v3, v4, v5] (.int y :: .int x :: st) h 0 0 = (eX6_isWord ret F n 80 [v0, v1, v2, v3, v4, v5] (.int (x + y) :: st) h 0 0) := (amWp_dec rfl dX6_isWord_79 rfl).trans rfl
theorem wX6_isWord_80 {ret F n h} {v0 v1 v2 v3 v4 v5 st} : eX6_isWord ret F (n + 1) 80 [v0, v1, v2, v3, v4, v5] (st) h 0 0 = (eX6_isWord ret F n 82 [v0, v1, v2, v3, v4, v5] (.int (nI 97) :: st) h 0 0) := (amWp_dec rfl dX6_isWord_80 rfl).trans rfl
theorem wX6_isWord_82 {ret F n h} {v0 v1 v2 v3 v4 v5 st} : eX6_isWord ret F (n + 1) 82 [v0, v1, v2, v3, v4, v5] (st) h 0 0 = (eX6_isWord ret F n 84 [v0, v1, v2, v3, v4, v5] (.int (nI 122) :: st) h 0 0) := (amWp_dec rfl dX6_isWord_82 rfl).trans rfl
theorem wX6_isWord_84 {ret F n h} {v0 v1 v2 v3 v4 v5 x3 x2 x1 x0} : eX6_isWord ret F (n + 1) 84 [v0, v1, v2, v3, v4, v5] (.int x3 :: .int x2 :: .int x1 :: .ref x0 :: []) h 0 0 = (h.1 x0 = (0, 6) ∧ tX6_isAt [.ref x0, .int x1, .int x2, .int x3] h (fun v h => eX6_isWord ret F n 87 [v0, v1, v2, v3, v4, v5] (v.toList ++ ([])) h 0 0)) := (amWp_dec rfl dX6_isWord_84 rfl).trans (amS4 (Nat.le_of_ble_eq_true rfl) (Nat.le_of_ble_eq_true rfl) (Nat.le_of_ble_eq_true rfl) (Nat.le_of_ble_eq_true rfl))
theorem wX6_isWord_87 {ret F n h} {v0 v1 v2 v3 v4 v5 st x} : eX6_isWord ret F (n + 1) 87 [v0, v1, v2, v3, v4, v5] (.int x :: st) h 0 0 = ((¬ x = 0 → eX6_isWord ret F n 94 [v0, v1, v2, v3, v4, v5] (st) h 0 0) ∧ (x = 0 → eX6_isWord ret F n 90 [v0, v1, v2, v3, v4, v5] (st) h 0 0)) := (amWp_dec rfl dX6_isWord_87 rfl).trans rfl
theorem wX6_isWord_90 {ret F n h} {v0 v1 v2 v3 v4 v5 st} : eX6_isWord ret F (n + 1) 90 [v0, v1, v2, v3, v4, v5] (st) h 0 0 = (eX6_isWord ret F n 91 [v0, v1, v2, v3, v4, v5] (.int (nI 1) :: st) h 0 0) := (amWp_dec rfl dX6_isWord_90 rfl).trans rfl
theorem wX6_isWord_91 {ret F n h} {v0 v1 v2 v3 v4 v5 st} : eX6_isWord ret F (n + 1) 91 [v0, v1, v2, v3, v4, v5] (st) h 0 0 = (eX6_isWord ret F n 95 [v0, v1, v2, v3, v4, v5] (st) h 0 0) := (amWp_dec rfl dX6_isWord_91 rfl).trans rfl
theorem wX6_isWord_94 {ret F n h} {v0 v1 v2 v3 v4 v5 st} : eX6_isWord ret F (n + 1) 94 [v0, v1, v2, v3, v4, v5] (st) h 0 0 = (eX6_isWord ret F n 95 [v0, v1, v2, v3, v4, v5] (.int (nI 0) :: st) h 0 0) := (amWp_dec rfl dX6_isWord_94 rfl).trans rfl
theorem wX6_isWord_95 {ret F n h} {v0 v1 v2 v3 v4 v5 x} : eX6_isWord ret F (n + 1) 95 [v0, v1, v2, v3, v4, v5] ([.int x]) h 0 0 = (narrow .boolean (.int x) = .int x ∧ ret (some (.int x)) h 0 0) := (amWp_dec rfl dX6_isWord_95 rfl).trans (amRetTy)
theorem evX6_isWord (l : Launch) (G : amG) : ∀ pc S i sz, amLk rX6_isWord pc = some S → decode cX6_isWord pc = .ok (i, sz) → amSiteP pc G l yX6_isWord.cls yX6_isWord.name yX6_isWord.desc (amRm 3 0 0) i sz S.1 S.2.1 S.2.2.1 S.2.2.2 := amLk_ok (by
  refine List.forall_mem_cons.mpr ⟨⟨_, _, dX6_isWord_1, amSite.P (amSiteGet ⟨_, rfl, by decide, Or.inl q1320⟩)⟩, ?_⟩
  refine List.forall_mem_cons.mpr ⟨⟨_, _, dX6_isWord_7, amSite.P (amSiteGet ⟨_, rfl, by decide, Or.inl q1302⟩)⟩, ?_⟩
  refine List.forall_mem_cons.mpr ⟨⟨_, _, dX6_isWord_14, amSite.P (amSiteGet ⟨_, rfl, by decide, Or.inl q1301⟩)⟩, ?_⟩
  refine List.forall_mem_cons.mpr ⟨⟨_, _, dX6_isWord_18, amSite.P (amSiteGet ⟨_, rfl, by decide, Or.inl q1320⟩)⟩, ?_⟩
  refine List.forall_mem_cons.mpr ⟨⟨_, _, dX6_isWord_27, amSite.P (amSiteGet ⟨_, rfl, by decide, Or.inl q1301⟩)⟩, ?_⟩
  refine List.forall_mem_cons.mpr ⟨⟨_, _, dX6_isWord_31, amSite.P (amSiteGet ⟨_, rfl, by decide, Or.inl q1320⟩)⟩, ?_⟩
  refine List.forall_mem_cons.mpr ⟨⟨_, _, dX6_isWord_42, amSite.P (amSiteGet ⟨_, rfl, by decide, Or.inl q1301⟩)⟩, ?_⟩
  refine List.forall_mem_cons.mpr ⟨⟨_, _, dX6_isWord_46, amSite.P (amSiteGet ⟨_, rfl, by decide, Or.inl q1320⟩)⟩, ?_⟩
  refine List.forall_mem_cons.mpr ⟨⟨_, _, dX6_isWord_58, amSite.P (amSiteGet ⟨_, rfl, by decide, Or.inl q1301⟩)⟩, ?_⟩
  refine List.forall_mem_cons.mpr ⟨⟨_, _, dX6_isWord_62, amSite.P (amSiteGet ⟨_, rfl, by decide, Or.inl q1320⟩)⟩, ?_⟩
  refine List.forall_mem_cons.mpr ⟨⟨_, _, dX6_isWord_75, amSite.P (amSiteGet ⟨_, rfl, by decide, Or.inl q1320⟩)⟩, ?_⟩
  refine List.forall_mem_cons.mpr ⟨⟨_, _, dX6_isWord_84, amSite.P (amSiteV (C := RX6) (metX6_isAt l G) rfl (by decide) (by decide) (lw_V q1621 q1623 qs76 q94 q1624) ⟨_, rfl, rfl⟩ ⟨rfl, by decide +kernel, by decide +kernel, by decide +kernel⟩)⟩, ?_⟩
  exact fun _ h => absurd h List.not_mem_nil)
theorem goX6_isWord {ret F} (hF : amCld cX6_isWord kX6_isWord (amLk rX6_isWord) (some .boolean) 0 0 ret F) (n : Nat) {pc ls st h k z} (q : sX6_isWord ret F n pc ls st h k z) : F pc ls st h k z := hF.1 n pc ls st h k z q
theorem metX6_isWord (l : Launch) (G : amG) : amMet l G yX6_isWord (ws_ yX6_isWord cX6_isWord 6 (some .boolean)) 3 0 0 tX6_isWord := by
  refine amMet_of (cut := kX6_isWord) (by decide +kernel) (evX6_isWord l G) ?_
  intro as h K hT
  match as, hT with
  | [.ref x, .int n0, .int a0, .int b0, .int c0, .int d0], ⟨t, p, n, a, b, c, d, e, hR, hT, hp, pl, e1, e2, e3, e4, e5, n4, n10, a1, b1, c1, d1, hK⟩ =>
  refine ⟨Nat.le_of_ble_eq_true rfl, fun F hF => ?_⟩
  show F 0 [.ref x, .int n0, .int a0, .int b0, .int c0, .int d0] [] h 0 0
  obtain ⟨x, rfl⟩ : ∃ i : Nat, i = x := ⟨_, rfl⟩
  subst e e1 e2 e3 e4 e5
  obtain ⟨t90, tn, tt⟩ := hT.1
  have hO := hT.2
  have kf : ¬ hd4 t p n a b c d → amRet 0 0 K (some (.int (nI 0))) h 0 0 := fun z => by
    rw [amC01_f z] at hK
    exact amRet.of (by decide) (by decide) hK
  have kt : hd4 t p n a b c d → amRet 0 0 K (some (.int (nI 1))) h 0 0 := fun z => by
    rw [amC01_t z] at hK
    exact amRet.of (by decide) (by decide) hK
  refine goX6_isWord hF 80 ?_
  by_cases q : p + n ≤ t.length
  · have q' : (t.length < p + n) = False := eq_false (by omega)
    have t0 := tt p (by omega)
    have t1 := tt (p + 1) (by omega)
    have t2 := tt (p + 2) (by omega)
    have t3 := tt (p + 3) (by omega)
    have l0 := hO.le p
    have l1 := hO.le (p + 1)
    have l2 := hO.le (p + 2)
    have l3 := hO.le (p + 3)
    simp (disch := omega) only [wX6_isWord_0, uX6_isWord_0, wX6_isWord_1, wX6_isWord_4, wX6_isWord_5, wX6_isWord_6, wX6_isWord_7, wX6_isWord_10, wX6_isWord_13, wX6_isWord_14, wX6_isWord_17, wX6_isWord_18, wX6_isWord_21, wX6_isWord_22, wX6_isWord_23, wX6_isWord_26, wX6_isWord_27, wX6_isWord_30, wX6_isWord_31, wX6_isWord_34, wX6_isWord_35, wX6_isWord_36, wX6_isWord_37, wX6_isWord_38, wX6_isWord_41, wX6_isWord_42, wX6_isWord_45, wX6_isWord_46, wX6_isWord_49, wX6_isWord_50, wX6_isWord_51, wX6_isWord_52, wX6_isWord_54, wX6_isWord_57, wX6_isWord_58, wX6_isWord_61, wX6_isWord_62, wX6_isWord_65, wX6_isWord_66, wX6_isWord_67, wX6_isWord_68, wX6_isWord_70, wX6_isWord_73, wX6_isWord_74, wX6_isWord_75, wX6_isWord_78, wX6_isWord_79, wX6_isWord_80, wX6_isWord_82, wX6_isWord_84, wX6_isWord_87, wX6_isWord_90, wX6_isWord_91, wX6_isWord_94, wX6_isWord_95, amSI_1, amSI_2, amSI_3, amSI_s, amU_at, amIsR_ref, amIsR_null, amIsR_rf, amRf_some, amRf_none, amClr_int, amClr_ref, amClr_null, amClr_long, amClr_ra, amClr_rf, amFit_int, amFit_oref, amFit_aref, amFit_onull, amFit_anull, amOptSome, amOptNone, List.cons_append, List.nil_append, true_and, and_true, true_implies, not_true_eq_false, not_false_eq_true, false_implies, and_self, Nat.add_zero, Nat.zero_add, ne_eq, Prod.mk.injEq, amC01_0, amC01_1, amC01_nb, amNb0, amNb1, amTcpI_d, Nat.reduceLeDiff, Nat.reduceAdd, Nat.reduceSub, Nat.reduceEqDiff, Nat.le_refl, amN0le, hR.s, hR.r, amLeI, amLtI, amEqI, amLe0, amGt0, amEq0, amNotPosI, amGe0, amVI, amCl_nI, amAdd, amSub, amMul, hp, tn, q', t0, t1, t2, t3]
    refine ⟨fun z => kf (fun y => z y.2.1), fun z0 => ⟨fun z => kf (fun y => z y.2.2.1), fun z1 => ⟨fun z => kf (fun y => z y.2.2.2.1), fun z2 => ⟨fun z => kf (fun y => z y.2.2.2.2.1), fun z3 => ?_⟩⟩⟩⟩
    refine mIsAt hR hT q (by decide) (by decide) (by decide) ?_
    simp (disch := omega) only [wX6_isWord_0, uX6_isWord_0, wX6_isWord_1, wX6_isWord_4, wX6_isWord_5, wX6_isWord_6, wX6_isWord_7, wX6_isWord_10, wX6_isWord_13, wX6_isWord_14, wX6_isWord_17, wX6_isWord_18, wX6_isWord_21, wX6_isWord_22, wX6_isWord_23, wX6_isWord_26, wX6_isWord_27, wX6_isWord_30, wX6_isWord_31, wX6_isWord_34, wX6_isWord_35, wX6_isWord_36, wX6_isWord_37, wX6_isWord_38, wX6_isWord_41, wX6_isWord_42, wX6_isWord_45, wX6_isWord_46, wX6_isWord_49, wX6_isWord_50, wX6_isWord_51, wX6_isWord_52, wX6_isWord_54, wX6_isWord_57, wX6_isWord_58, wX6_isWord_61, wX6_isWord_62, wX6_isWord_65, wX6_isWord_66, wX6_isWord_67, wX6_isWord_68, wX6_isWord_70, wX6_isWord_73, wX6_isWord_74, wX6_isWord_75, wX6_isWord_78, wX6_isWord_79, wX6_isWord_80, wX6_isWord_82, wX6_isWord_84, wX6_isWord_87, wX6_isWord_90, wX6_isWord_91, wX6_isWord_94, wX6_isWord_95, amSI_1, amSI_2, amSI_3, amSI_s, amU_at, amIsR_ref, amIsR_null, amIsR_rf, amRf_some, amRf_none, amClr_int, amClr_ref, amClr_null, amClr_long, amClr_ra, amClr_rf, amFit_int, amFit_oref, amFit_aref, amFit_onull, amFit_anull, amOptSome, amOptNone, List.cons_append, List.nil_append, true_and, and_true, true_implies, not_true_eq_false, not_false_eq_true, false_implies, and_self, Nat.add_zero, Nat.zero_add, ne_eq, Prod.mk.injEq, amC01_0, amC01_1, amC01_nb, amNb0, amNb1, amTcpI_d, Nat.reduceLeDiff, Nat.reduceAdd, Nat.reduceSub, Nat.reduceEqDiff, Nat.le_refl, amN0le, hR.s, hR.r]
    exact ⟨fun z => kf (fun y => z y.2.2.2.2.2), fun z => kt ⟨q, z0, z1, z2, z3, z⟩⟩
  · have q' : (t.length < p + n) = True := eq_true (by omega)
    have key := kf (fun y => q y.1)
    simp (disch := omega) only [wX6_isWord_0, uX6_isWord_0, wX6_isWord_1, wX6_isWord_4, wX6_isWord_5, wX6_isWord_6, wX6_isWord_7, wX6_isWord_10, wX6_isWord_13, wX6_isWord_14, wX6_isWord_17, wX6_isWord_18, wX6_isWord_21, wX6_isWord_22, wX6_isWord_23, wX6_isWord_26, wX6_isWord_27, wX6_isWord_30, wX6_isWord_31, wX6_isWord_34, wX6_isWord_35, wX6_isWord_36, wX6_isWord_37, wX6_isWord_38, wX6_isWord_41, wX6_isWord_42, wX6_isWord_45, wX6_isWord_46, wX6_isWord_49, wX6_isWord_50, wX6_isWord_51, wX6_isWord_52, wX6_isWord_54, wX6_isWord_57, wX6_isWord_58, wX6_isWord_61, wX6_isWord_62, wX6_isWord_65, wX6_isWord_66, wX6_isWord_67, wX6_isWord_68, wX6_isWord_70, wX6_isWord_73, wX6_isWord_74, wX6_isWord_75, wX6_isWord_78, wX6_isWord_79, wX6_isWord_80, wX6_isWord_82, wX6_isWord_84, wX6_isWord_87, wX6_isWord_90, wX6_isWord_91, wX6_isWord_94, wX6_isWord_95, amSI_1, amSI_2, amSI_3, amSI_s, amU_at, amIsR_ref, amIsR_null, amIsR_rf, amRf_some, amRf_none, amClr_int, amClr_ref, amClr_null, amClr_long, amClr_ra, amClr_rf, amFit_int, amFit_oref, amFit_aref, amFit_onull, amFit_anull, amOptSome, amOptNone, List.cons_append, List.nil_append, true_and, and_true, true_implies, not_true_eq_false, not_false_eq_true, false_implies, and_self, Nat.add_zero, Nat.zero_add, ne_eq, Prod.mk.injEq, amC01_0, amC01_1, amC01_nb, amNb0, amNb1, amTcpI_d, Nat.reduceLeDiff, Nat.reduceAdd, Nat.reduceSub, Nat.reduceEqDiff, Nat.le_refl, amN0le, hR.s, hR.r, amLeI, amLtI, amEqI, amLe0, amGt0, amEq0, amNotPosI, amGe0, amVI, amCl_nI, amAdd, amSub, amMul, hp, tn, q']
    exact key
theorem mIsWord {h : amH} {t : List Nat} {p n a b c d : Nat} {K : Option Value → amH → Prop} (hR : mdAt h) (hT : TxM h.2.1 t) (hp : h.2.1 124 25 = nI p) (pl : p ≤ t.length) (n4 : 4 ≤ n ∧ n ≤ 10) (a1 : a < 1000 ∧ b < 1000 ∧ c < 1000 ∧ d < 1000) (k : K (some (.int (amC01 (hd4 t p n a b c d)))) h) : tX6_isWord [.ref 124, .int (nI n), .int (nI a), .int (nI b), .int (nI c), .int (nI d)] h K := ⟨t, p, n, a, b, c, d, rfl, hR, hT, hp, pl, rfl, rfl, rfl, rfl, rfl, n4.1, n4.2, a1.1, a1.2.1, a1.2.2.1, a1.2.2.2, k⟩
abbrev mo4 (t : List Nat) (p a b c d : Nat) : Prop := t.getD p 0 = a ∧ t.getD (p + 1) 0 = b ∧ t.getD (p + 2) 0 = c ∧ t.getD (p + 3) 0 = d
def tX6_isMore : amT := fun as h K => match as with
  | [.ref x, .int p0, .int a0, .int b0, .int c0, .int d0] => ∃ (t : List Nat) (p a b c d : Nat), x = (124 : Nat) ∧ mdAt h ∧ TxM h.2.1 t ∧ p0 = nI p ∧ p + 4 ≤ t.length ∧ a0 = nI a ∧ b0 = nI b ∧ c0 = nI c ∧ d0 = nI d ∧ a < 1000 ∧ b < 1000 ∧ c < 1000 ∧ d < 1000 ∧ K (some (.int (amC01 (mo4 t p a b c d)))) h
  | _ => False
/-! ReadingStagesModel.isMore(IIIII)Z -/
def kX6_isMore : Nat → Bool := fun pc => false
def rX6_isMore : List (Nat × amS) := [(1, 1, 0, 0, amTget 6 6), (11, 1, 0, 0, amTget 6 6), (23, 1, 0, 0, amTget 6 6), (36, 1, 0, 0, amTget 6 6)]
def eX6_isMore (ret : Option Value → amH → Nat → Nat → Prop) (F : amX) : Nat → amX := amWp cX6_isMore kX6_isMore (amLk rX6_isMore) (some .boolean) 0 0 ret F
def sX6_isMore (ret : Option Value → amH → Nat → Nat → Prop) (F : amX) : Nat → amX := amWs cX6_isMore kX6_isMore (amLk rX6_isMore) (some .boolean) 0 0 ret F
theorem wX6_isMore_0 {ret F n h} {v0 v1 v2 v3 v4 v5 st} : eX6_isMore ret F (n + 1) 0 [v0, v1, v2, v3, v4, v5] (st) h 0 0 = (amIsR v0 ∧ eX6_isMore ret F n 1 [v0, v1, v2, v3, v4, v5] (v0 :: st) h 0 0) := (amWp_dec rfl dX6_isMore_0 rfl).trans rfl
theorem uX6_isMore_0 {ret F n h} {v0 v1 v2 v3 v4 v5 st} : sX6_isMore ret F n 0 [v0, v1, v2, v3, v4, v5] (st) h 0 0 = (amIsR v0 ∧ eX6_isMore ret F n 1 [v0, v1, v2, v3, v4, v5] (v0 :: st) h 0 0) := (amWs_dec dX6_isMore_0 rfl).trans rfl
theorem wX6_isMore_1 {ret F n h} {v0 v1 v2 v3 v4 v5 a} : eX6_isMore ret F (n + 1) 1 [v0, v1, v2, v3, v4, v5] (.ref a :: []) h 0 0 = (h.1 a = (0, 6) ∧ eX6_isMore ret F n 4 [v0, v1, v2, v3, v4, v5] (va_rf (h.2.2.2.1 a 6) :: []) h 0 0) := (amWp_dec rfl dX6_isMore_1 rfl).trans (amS4 (Nat.le_of_ble_eq_true rfl) (Nat.le_of_ble_eq_true rfl) (Nat.le_of_ble_eq_true rfl) (Nat.le_of_ble_eq_true rfl))
theorem wX6_isMore_4 {ret F n h} {v0 v2 v3 v4 v5 st x} : eX6_isMore ret F (n + 1) 4 [v0, .int x, v2, v3, v4, v5] (st) h 0 0 = (eX6_isMore ret F n 5 [v0, .int x, v2, v3, v4, v5] (.int x :: st) h 0 0) := (amWp_dec rfl dX6_isMore_4 rfl).trans rfl
theorem wX6_isMore_5 {ret F n h} {v0 v1 v2 v3 v4 v5 st x a} : eX6_isMore ret F (n + 1) 5 [v0, v1, v2, v3, v4, v5] (.int x :: .ref a :: st) h 0 0 = ((h.1 a).1 = 1 ∧ vp_in x (h.1 a).2 ∧ eX6_isMore ret F n 6 [v0, v1, v2, v3, v4, v5] (.int (h.2.1 a x.toNatClampNeg) :: st) h 0 0) := (amWp_dec rfl dX6_isMore_5 rfl).trans rfl
theorem wX6_isMore_6 {ret F n h} {v0 v1 v3 v4 v5 st x} : eX6_isMore ret F (n + 1) 6 [v0, v1, .int x, v3, v4, v5] (st) h 0 0 = (eX6_isMore ret F n 7 [v0, v1, .int x, v3, v4, v5] (.int x :: st) h 0 0) := (amWp_dec rfl dX6_isMore_6 rfl).trans rfl
theorem wX6_isMore_7 {ret F n h} {v0 v1 v2 v3 v4 v5 st y x} : eX6_isMore ret F (n + 1) 7 [v0, v1, v2, v3, v4, v5] (.int y :: .int x :: st) h 0 0 = ((¬ x = y → eX6_isMore ret F n 52 [v0, v1, v2, v3, v4, v5] (st) h 0 0) ∧ (x = y → eX6_isMore ret F n 10 [v0, v1, v2, v3, v4, v5] (st) h 0 0)) := (amWp_dec rfl dX6_isMore_7 rfl).trans rfl
theorem wX6_isMore_10 {ret F n h} {v0 v1 v2 v3 v4 v5 st} : eX6_isMore ret F (n + 1) 10 [v0, v1, v2, v3, v4, v5] (st) h 0 0 = (amIsR v0 ∧ eX6_isMore ret F n 11 [v0, v1, v2, v3, v4, v5] (v0 :: st) h 0 0) := (amWp_dec rfl dX6_isMore_10 rfl).trans rfl
theorem wX6_isMore_11 {ret F n h} {v0 v1 v2 v3 v4 v5 a} : eX6_isMore ret F (n + 1) 11 [v0, v1, v2, v3, v4, v5] (.ref a :: []) h 0 0 = (h.1 a = (0, 6) ∧ eX6_isMore ret F n 14 [v0, v1, v2, v3, v4, v5] (va_rf (h.2.2.2.1 a 6) :: []) h 0 0) := (amWp_dec rfl dX6_isMore_11 rfl).trans (amS4 (Nat.le_of_ble_eq_true rfl) (Nat.le_of_ble_eq_true rfl) (Nat.le_of_ble_eq_true rfl) (Nat.le_of_ble_eq_true rfl))
theorem wX6_isMore_14 {ret F n h} {v0 v2 v3 v4 v5 st x} : eX6_isMore ret F (n + 1) 14 [v0, .int x, v2, v3, v4, v5] (st) h 0 0 = (eX6_isMore ret F n 15 [v0, .int x, v2, v3, v4, v5] (.int x :: st) h 0 0) := (amWp_dec rfl dX6_isMore_14 rfl).trans rfl
theorem wX6_isMore_15 {ret F n h} {v0 v1 v2 v3 v4 v5 st} : eX6_isMore ret F (n + 1) 15 [v0, v1, v2, v3, v4, v5] (st) h 0 0 = (eX6_isMore ret F n 16 [v0, v1, v2, v3, v4, v5] (.int (nI 1) :: st) h 0 0) := (amWp_dec rfl dX6_isMore_15 rfl).trans rfl
theorem wX6_isMore_16 {ret F n h} {v0 v1 v2 v3 v4 v5 st y x} : eX6_isMore ret F (n + 1) 16 [v0, v1, v2, v3, v4, v5] (.int y :: .int x :: st) h 0 0 = (eX6_isMore ret F n 17 [v0, v1, v2, v3, v4, v5] (.int (x + y) :: st) h 0 0) := (amWp_dec rfl dX6_isMore_16 rfl).trans rfl
theorem wX6_isMore_17 {ret F n h} {v0 v1 v2 v3 v4 v5 st x a} : eX6_isMore ret F (n + 1) 17 [v0, v1, v2, v3, v4, v5] (.int x :: .ref a :: st) h 0 0 = ((h.1 a).1 = 1 ∧ vp_in x (h.1 a).2 ∧ eX6_isMore ret F n 18 [v0, v1, v2, v3, v4, v5] (.int (h.2.1 a x.toNatClampNeg) :: st) h 0 0) := (amWp_dec rfl dX6_isMore_17 rfl).trans rfl
theorem wX6_isMore_18 {ret F n h} {v0 v1 v2 v4 v5 st x} : eX6_isMore ret F (n + 1) 18 [v0, v1, v2, .int x, v4, v5] (st) h 0 0 = (eX6_isMore ret F n 19 [v0, v1, v2, .int x, v4, v5] (.int x :: st) h 0 0) := (amWp_dec rfl dX6_isMore_18 rfl).trans rfl
theorem wX6_isMore_19 {ret F n h} {v0 v1 v2 v3 v4 v5 st y x} : eX6_isMore ret F (n + 1) 19 [v0, v1, v2, v3, v4, v5] (.int y :: .int x :: st) h 0 0 = ((¬ x = y → eX6_isMore ret F n 52 [v0, v1, v2, v3, v4, v5] (st) h 0 0) ∧ (x = y → eX6_isMore ret F n 22 [v0, v1, v2, v3, v4, v5] (st) h 0 0)) := (amWp_dec rfl dX6_isMore_19 rfl).trans rfl
theorem wX6_isMore_22 {ret F n h} {v0 v1 v2 v3 v4 v5 st} : eX6_isMore ret F (n + 1) 22 [v0, v1, v2, v3, v4, v5] (st) h 0 0 = (amIsR v0 ∧ eX6_isMore ret F n 23 [v0, v1, v2, v3, v4, v5] (v0 :: st) h 0 0) := (amWp_dec rfl dX6_isMore_22 rfl).trans rfl
theorem wX6_isMore_23 {ret F n h} {v0 v1 v2 v3 v4 v5 a} : eX6_isMore ret F (n + 1) 23 [v0, v1, v2, v3, v4, v5] (.ref a :: []) h 0 0 = (h.1 a = (0, 6) ∧ eX6_isMore ret F n 26 [v0, v1, v2, v3, v4, v5] (va_rf (h.2.2.2.1 a 6) :: []) h 0 0) := (amWp_dec rfl dX6_isMore_23 rfl).trans (amS4 (Nat.le_of_ble_eq_true rfl) (Nat.le_of_ble_eq_true rfl) (Nat.le_of_ble_eq_true rfl) (Nat.le_of_ble_eq_true rfl))
theorem wX6_isMore_26 {ret F n h} {v0 v2 v3 v4 v5 st x} : eX6_isMore ret F (n + 1) 26 [v0, .int x, v2, v3, v4, v5] (st) h 0 0 = (eX6_isMore ret F n 27 [v0, .int x, v2, v3, v4, v5] (.int x :: st) h 0 0) := (amWp_dec rfl dX6_isMore_26 rfl).trans rfl
theorem wX6_isMore_27 {ret F n h} {v0 v1 v2 v3 v4 v5 st} : eX6_isMore ret F (n + 1) 27 [v0, v1, v2, v3, v4, v5] (st) h 0 0 = (eX6_isMore ret F n 28 [v0, v1, v2, v3, v4, v5] (.int (nI 2) :: st) h 0 0) := (amWp_dec rfl dX6_isMore_27 rfl).trans rfl
theorem wX6_isMore_28 {ret F n h} {v0 v1 v2 v3 v4 v5 st y x} : eX6_isMore ret F (n + 1) 28 [v0, v1, v2, v3, v4, v5] (.int y :: .int x :: st) h 0 0 = (eX6_isMore ret F n 29 [v0, v1, v2, v3, v4, v5] (.int (x + y) :: st) h 0 0) := (amWp_dec rfl dX6_isMore_28 rfl).trans rfl
theorem wX6_isMore_29 {ret F n h} {v0 v1 v2 v3 v4 v5 st x a} : eX6_isMore ret F (n + 1) 29 [v0, v1, v2, v3, v4, v5] (.int x :: .ref a :: st) h 0 0 = ((h.1 a).1 = 1 ∧ vp_in x (h.1 a).2 ∧ eX6_isMore ret F n 30 [v0, v1, v2, v3, v4, v5] (.int (h.2.1 a x.toNatClampNeg) :: st) h 0 0) := (amWp_dec rfl dX6_isMore_29 rfl).trans rfl
theorem wX6_isMore_30 {ret F n h} {v0 v1 v2 v3 v5 st x} : eX6_isMore ret F (n + 1) 30 [v0, v1, v2, v3, .int x, v5] (st) h 0 0 = (eX6_isMore ret F n 32 [v0, v1, v2, v3, .int x, v5] (.int x :: st) h 0 0) := (amWp_dec rfl dX6_isMore_30 rfl).trans rfl
theorem wX6_isMore_32 {ret F n h} {v0 v1 v2 v3 v4 v5 st y x} : eX6_isMore ret F (n + 1) 32 [v0, v1, v2, v3, v4, v5] (.int y :: .int x :: st) h 0 0 = ((¬ x = y → eX6_isMore ret F n 52 [v0, v1, v2, v3, v4, v5] (st) h 0 0) ∧ (x = y → eX6_isMore ret F n 35 [v0, v1, v2, v3, v4, v5] (st) h 0 0)) := (amWp_dec rfl dX6_isMore_32 rfl).trans rfl
theorem wX6_isMore_35 {ret F n h} {v0 v1 v2 v3 v4 v5 st} : eX6_isMore ret F (n + 1) 35 [v0, v1, v2, v3, v4, v5] (st) h 0 0 = (amIsR v0 ∧ eX6_isMore ret F n 36 [v0, v1, v2, v3, v4, v5] (v0 :: st) h 0 0) := (amWp_dec rfl dX6_isMore_35 rfl).trans rfl
theorem wX6_isMore_36 {ret F n h} {v0 v1 v2 v3 v4 v5 a} : eX6_isMore ret F (n + 1) 36 [v0, v1, v2, v3, v4, v5] (.ref a :: []) h 0 0 = (h.1 a = (0, 6) ∧ eX6_isMore ret F n 39 [v0, v1, v2, v3, v4, v5] (va_rf (h.2.2.2.1 a 6) :: []) h 0 0) := (amWp_dec rfl dX6_isMore_36 rfl).trans (amS4 (Nat.le_of_ble_eq_true rfl) (Nat.le_of_ble_eq_true rfl) (Nat.le_of_ble_eq_true rfl) (Nat.le_of_ble_eq_true rfl))
theorem wX6_isMore_39 {ret F n h} {v0 v2 v3 v4 v5 st x} : eX6_isMore ret F (n + 1) 39 [v0, .int x, v2, v3, v4, v5] (st) h 0 0 = (eX6_isMore ret F n 40 [v0, .int x, v2, v3, v4, v5] (.int x :: st) h 0 0) := (amWp_dec rfl dX6_isMore_39 rfl).trans rfl
theorem wX6_isMore_40 {ret F n h} {v0 v1 v2 v3 v4 v5 st} : eX6_isMore ret F (n + 1) 40 [v0, v1, v2, v3, v4, v5] (st) h 0 0 = (eX6_isMore ret F n 41 [v0, v1, v2, v3, v4, v5] (.int (nI 3) :: st) h 0 0) := (amWp_dec rfl dX6_isMore_40 rfl).trans rfl
theorem wX6_isMore_41 {ret F n h} {v0 v1 v2 v3 v4 v5 st y x} : eX6_isMore ret F (n + 1) 41 [v0, v1, v2, v3, v4, v5] (.int y :: .int x :: st) h 0 0 = (eX6_isMore ret F n 42 [v0, v1, v2, v3, v4, v5] (.int (x + y) :: st) h 0 0) := (amWp_dec rfl dX6_isMore_41 rfl).trans rfl
theorem wX6_isMore_42 {ret F n h} {v0 v1 v2 v3 v4 v5 st x a} : eX6_isMore ret F (n + 1) 42 [v0, v1, v2, v3, v4, v5] (.int x :: .ref a :: st) h 0 0 = ((h.1 a).1 = 1 ∧ vp_in x (h.1 a).2 ∧ eX6_isMore ret F n 43 [v0, v1, v2, v3, v4, v5] (.int (h.2.1 a x.toNatClampNeg) :: st) h 0 0) := (amWp_dec rfl dX6_isMore_42 rfl).trans rfl
theorem wX6_isMore_43 {ret F n h} {v0 v1 v2 v3 v4 st x} : eX6_isMore ret F (n + 1) 43 [v0, v1, v2, v3, v4, .int x] (st) h 0 0 = (eX6_isMore ret F n 45 [v0, v1, v2, v3, v4, .int x] (.int x :: st) h 0 0) := (amWp_dec rfl dX6_isMore_43 rfl).trans rfl
theorem wX6_isMore_45 {ret F n h} {v0 v1 v2 v3 v4 v5 st y x} : eX6_isMore ret F (n + 1) 45 [v0, v1, v2, v3, v4, v5] (.int y :: .int x :: st) h 0 0 = ((¬ x = y → eX6_isMore ret F n 52 [v0, v1, v2, v3, v4, v5] (st) h 0 0) ∧ (x = y → eX6_isMore ret F n 48 [v0, v1, v2, v3, v4, v5] (st) h 0 0)) := (amWp_dec rfl dX6_isMore_45 rfl).trans rfl
theorem wX6_isMore_48 {ret F n h} {v0 v1 v2 v3 v4 v5 st} : eX6_isMore ret F (n + 1) 48 [v0, v1, v2, v3, v4, v5] (st) h 0 0 = (eX6_isMore ret F n 49 [v0, v1, v2, v3, v4, v5] (.int (nI 1) :: st) h 0 0) := (amWp_dec rfl dX6_isMore_48 rfl).trans rfl
theorem wX6_isMore_49 {ret F n h} {v0 v1 v2 v3 v4 v5 st} : eX6_isMore ret F (n + 1) 49 [v0, v1, v2, v3, v4, v5] (st) h 0 0 = (eX6_isMore ret F n 53 [v0, v1, v2, v3, v4, v5] (st) h 0 0) := (amWp_dec rfl dX6_isMore_49 rfl).trans rfl
theorem wX6_isMore_52 {ret F n h} {v0 v1 v2 v3 v4 v5 st} : eX6_isMore ret F (n + 1) 52 [v0, v1, v2, v3, v4, v5] (st) h 0 0 = (eX6_isMore ret F n 53 [v0, v1, v2, v3, v4, v5] (.int (nI 0) :: st) h 0 0) := (amWp_dec rfl dX6_isMore_52 rfl).trans rfl
theorem wX6_isMore_53 {ret F n h} {v0 v1 v2 v3 v4 v5 x} : eX6_isMore ret F (n + 1) 53 [v0, v1, v2, v3, v4, v5] ([.int x]) h 0 0 = (narrow .boolean (.int x) = .int x ∧ ret (some (.int x)) h 0 0) := (amWp_dec rfl dX6_isMore_53 rfl).trans (amRetTy)
theorem evX6_isMore (l : Launch) (G : amG) : ∀ pc S i sz, amLk rX6_isMore pc = some S → decode cX6_isMore pc = .ok (i, sz) → amSiteP pc G l yX6_isMore.cls yX6_isMore.name yX6_isMore.desc (amRm 1 0 0) i sz S.1 S.2.1 S.2.2.1 S.2.2.2 := amLk_ok (by
  refine List.forall_mem_cons.mpr ⟨⟨_, _, dX6_isMore_1, amSite.P (amSiteGet ⟨_, rfl, by decide, Or.inl q1301⟩)⟩, ?_⟩
  refine List.forall_mem_cons.mpr ⟨⟨_, _, dX6_isMore_11, amSite.P (amSiteGet ⟨_, rfl, by decide, Or.inl q1301⟩)⟩, ?_⟩
  refine List.forall_mem_cons.mpr ⟨⟨_, _, dX6_isMore_23, amSite.P (amSiteGet ⟨_, rfl, by decide, Or.inl q1301⟩)⟩, ?_⟩
  refine List.forall_mem_cons.mpr ⟨⟨_, _, dX6_isMore_36, amSite.P (amSiteGet ⟨_, rfl, by decide, Or.inl q1301⟩)⟩, ?_⟩
  exact fun _ h => absurd h List.not_mem_nil)
theorem goX6_isMore {ret F} (hF : amCld cX6_isMore kX6_isMore (amLk rX6_isMore) (some .boolean) 0 0 ret F) (n : Nat) {pc ls st h k z} (q : sX6_isMore ret F n pc ls st h k z) : F pc ls st h k z := hF.1 n pc ls st h k z q
theorem metX6_isMore (l : Launch) (G : amG) : amMet l G yX6_isMore (ws_ yX6_isMore cX6_isMore 6 (some .boolean)) 1 0 0 tX6_isMore := by
  refine amMet_of (cut := kX6_isMore) (by decide +kernel) (evX6_isMore l G) ?_
  intro as h K hT
  match as, hT with
  | [.ref x, .int p0, .int a0, .int b0, .int c0, .int d0], ⟨t, p, a, b, c, d, e, hR, hT, e1, pl, e2, e3, e4, e5, a1, b1, c1, d1, hK⟩ =>
  refine ⟨Nat.le_of_ble_eq_true rfl, fun F hF => ?_⟩
  show F 0 [.ref x, .int p0, .int a0, .int b0, .int c0, .int d0] [] h 0 0
  obtain ⟨x, rfl⟩ : ∃ i : Nat, i = x := ⟨_, rfl⟩
  subst e e1 e2 e3 e4 e5
  obtain ⟨t90, tn, tt⟩ := hT.1
  have hO := hT.2
  have kf : ¬ mo4 t p a b c d → amRet 0 0 K (some (.int (nI 0))) h 0 0 := fun z => by
    rw [amC01_f z] at hK
    exact amRet.of (by decide) (by decide) hK
  have kt : mo4 t p a b c d → amRet 0 0 K (some (.int (nI 1))) h 0 0 := fun z => by
    rw [amC01_t z] at hK
    exact amRet.of (by decide) (by decide) hK
  have t0 := tt p (by omega)
  have t1 := tt (p + 1) (by omega)
  have t2 := tt (p + 2) (by omega)
  have t3 := tt (p + 3) (by omega)
  have l0 := hO.le p
  have l1 := hO.le (p + 1)
  have l2 := hO.le (p + 2)
  have l3 := hO.le (p + 3)
  refine goX6_isMore hF 80 ?_
  simp (disch := omega) only [wX6_isMore_0, uX6_isMore_0, wX6_isMore_1, wX6_isMore_4, wX6_isMore_5, wX6_isMore_6, wX6_isMore_7, wX6_isMore_10, wX6_isMore_11, wX6_isMore_14, wX6_isMore_15, wX6_isMore_16, wX6_isMore_17, wX6_isMore_18, wX6_isMore_19, wX6_isMore_22, wX6_isMore_23, wX6_isMore_26, wX6_isMore_27, wX6_isMore_28, wX6_isMore_29, wX6_isMore_30, wX6_isMore_32, wX6_isMore_35, wX6_isMore_36, wX6_isMore_39, wX6_isMore_40, wX6_isMore_41, wX6_isMore_42, wX6_isMore_43, wX6_isMore_45, wX6_isMore_48, wX6_isMore_49, wX6_isMore_52, wX6_isMore_53, amSI_1, amSI_2, amSI_3, amSI_s, amU_at, amIsR_ref, amIsR_null, amIsR_rf, amRf_some, amRf_none, amClr_int, amClr_ref, amClr_null, amClr_long, amClr_ra, amClr_rf, amFit_int, amFit_oref, amFit_aref, amFit_onull, amFit_anull, amOptSome, amOptNone, List.cons_append, List.nil_append, true_and, and_true, true_implies, not_true_eq_false, not_false_eq_true, false_implies, and_self, Nat.add_zero, Nat.zero_add, ne_eq, Prod.mk.injEq, amC01_0, amC01_1, amC01_nb, amNb0, amNb1, amTcpI_d, Nat.reduceLeDiff, Nat.reduceAdd, Nat.reduceSub, Nat.reduceEqDiff, Nat.le_refl, amN0le, hR.s, hR.r, amLeI, amLtI, amEqI, amLe0, amGt0, amEq0, amNotPosI, amGe0, amVI, amCl_nI, amAdd, amSub, amMul, tn, t0, t1, t2, t3]
  exact ⟨fun z => kf (fun y => z y.1), fun z0 => ⟨fun z => kf (fun y => z y.2.1), fun z1 => ⟨fun z => kf (fun y => z y.2.2.1), fun z2 => ⟨fun z => kf (fun y => z y.2.2.2), fun z3 => kt ⟨z0, z1, z2, z3⟩⟩⟩⟩⟩
theorem mIsMore {h : amH} {t : List Nat} {p a b c d : Nat} {K : Option Value → amH → Prop} (hR : mdAt h) (hT : TxM h.2.1 t) (pl : p + 4 ≤ t.length) (a1 : a < 1000 ∧ b < 1000 ∧ c < 1000 ∧ d < 1000) (k : K (some (.int (amC01 (mo4 t p a b c d)))) h) : tX6_isMore [.ref 124, .int (nI p), .int (nI a), .int (nI b), .int (nI c), .int (nI d)] h K := ⟨t, p, a, b, c, d, rfl, hR, hT, rfl, pl, rfl, rfl, rfl, rfl, a1.1, a1.2.1, a1.2.2.1, a1.2.2.2, k⟩
theorem isW0 {t : List Nat} {p : Nat} : isW t p wd0 ↔ hd4 t p 6 115 116 101 97 ∧ t.getD (p + 4) 0 = 100 ∧ t.getD (p + 5) 0 = 121 := by
  constructor
  · rintro ⟨w, z⟩
    have w0 := w 0 (by decide)
    have w5 : t.getD (p + 5) 0 = 121 := w 5 (by decide)
    have := chr_lt (t := t) (p := p + 5) (by omega)
    exact ⟨⟨by omega, w0, w 1 (by decide), w 2 (by decide), w 3 (by decide), z⟩, w 4 (by decide), w5⟩
  · rintro ⟨⟨_, w0, w1, w2, w3, z⟩, w4, w5⟩
    refine ⟨fun i hi => ?_, z⟩
    match i, hi with
    | 0, _ => exact w0
    | 1, _ => exact w1
    | 2, _ => exact w2
    | 3, _ => exact w3
    | 4, _ => exact w4
    | 5, _ => exact w5
    | i + 6, hi => exact absurd hi (by show ¬ i + 6 < 6; omega)
theorem isW1 {t : List Nat} {p : Nat} : isW t p wd1 ↔ hd4 t p 7 103 114 111 119 ∧ mo4 t (p + 3) 119 105 110 103 := by
  constructor
  · rintro ⟨w, z⟩
    have w6 : t.getD (p + 6) 0 = 103 := w 6 (by decide)
    have := chr_lt (t := t) (p := p + 6) (by omega)
    exact ⟨⟨by omega, w 0 (by decide), w 1 (by decide), w 2 (by decide), w 3 (by decide), z⟩, w 3 (by decide), w 4 (by decide), w 5 (by decide), w6⟩
  · rintro ⟨⟨_, w0, w1, w2, w3, z⟩, _, w4, w5, w6⟩
    refine ⟨fun i hi => ?_, z⟩
    match i, hi with
    | 0, _ => exact w0
    | 1, _ => exact w1
    | 2, _ => exact w2
    | 3, _ => exact w3
    | 4, _ => exact w4
    | 5, _ => exact w5
    | 6, _ => exact w6
    | i + 7, hi => exact absurd hi (by show ¬ i + 7 < 7; omega)
theorem isW2 {t : List Nat} {p : Nat} : isW t p wd2 ↔ hd4 t p 8 100 111 117 98 ∧ mo4 t (p + 4) 108 105 110 103 := by
  constructor
  · rintro ⟨w, z⟩
    have w7 : t.getD (p + 7) 0 = 103 := w 7 (by decide)
    have := chr_lt (t := t) (p := p + 7) (by omega)
    exact ⟨⟨by omega, w 0 (by decide), w 1 (by decide), w 2 (by decide), w 3 (by decide), z⟩, w 4 (by decide), w 5 (by decide), w 6 (by decide), w7⟩
  · rintro ⟨⟨_, w0, w1, w2, w3, z⟩, w4, w5, w6, w7⟩
    refine ⟨fun i hi => ?_, z⟩
    match i, hi with
    | 0, _ => exact w0
    | 1, _ => exact w1
    | 2, _ => exact w2
    | 3, _ => exact w3
    | 4, _ => exact w4
    | 5, _ => exact w5
    | 6, _ => exact w6
    | 7, _ => exact w7
    | i + 8, hi => exact absurd hi (by show ¬ i + 8 < 8; omega)
def tX6_rule : amT := fun as h K => match as with
  | [.ref a] => ∃ (t : List Nat) (p : Nat), a = (124 : Nat) ∧ mdAt h ∧ TxM h.2.1 t ∧ h.2.1 124 25 = nI p ∧ p ≤ t.length ∧ ∀ m', m' 124 25 = nI (skip t p) → plFr h.2.1 m' → K (some (.int (optI (ruleW t (skip t p))))) (amSI h m')
  | _ => False
/-! ReadingStagesModel.rule()I -/
def kX6_rule : Nat → Bool := fun pc => pc == 4 || pc == 56 || pc == 96
def rX6_rule : List (Nat × amS) := [(1, 1, 0, 0, (amRecv 6 tX6_here)), (16, 6, 0, 0, (amRecv 6 tX6_isWord)), (23, 1, 0, 0, amTget 6 6), (27, 1, 0, 0, amTget 6 25), (39, 1, 0, 0, amTget 6 6), (43, 1, 0, 0, amTget 6 25), (67, 6, 0, 0, (amRecv 6 tX6_isWord)), (75, 1, 0, 0, amTget 6 25), (88, 6, 0, 0, (amRecv 6 tX6_isMore)), (107, 6, 0, 0, (amRecv 6 tX6_isWord)), (115, 1, 0, 0, amTget 6 25), (128, 6, 0, 0, (amRecv 6 tX6_isMore))]
def eX6_rule (ret : Option Value → amH → Nat → Nat → Prop) (F : amX) : Nat → amX := amWp cX6_rule kX6_rule (amLk rX6_rule) (some .int) 0 0 ret F
def sX6_rule (ret : Option Value → amH → Nat → Nat → Prop) (F : amX) : Nat → amX := amWs cX6_rule kX6_rule (amLk rX6_rule) (some .int) 0 0 ret F
theorem wX6_rule_0 {ret F n h} {v0 st} : eX6_rule ret F (n + 1) 0 [v0] (st) h 0 0 = (amIsR v0 ∧ eX6_rule ret F n 1 [v0] (v0 :: st) h 0 0) := (amWp_dec rfl dX6_rule_0 rfl).trans rfl
theorem uX6_rule_0 {ret F n h} {v0 st} : sX6_rule ret F n 0 [v0] (st) h 0 0 = (amIsR v0 ∧ eX6_rule ret F n 1 [v0] (v0 :: st) h 0 0) := (amWs_dec dX6_rule_0 rfl).trans rfl
theorem wX6_rule_1 {ret F n h} {v0 x0} : eX6_rule ret F (n + 1) 1 [v0] (.ref x0 :: []) h 0 0 = (h.1 x0 = (0, 6) ∧ tX6_here [.ref x0] h (fun v h => eX6_rule ret F n 4 [v0] (v.toList ++ ([])) h 0 0)) := (amWp_dec rfl dX6_rule_1 rfl).trans (amS4 (Nat.le_of_ble_eq_true rfl) (Nat.le_of_ble_eq_true rfl) (Nat.le_of_ble_eq_true rfl) (Nat.le_of_ble_eq_true rfl))
theorem wX6_rule_4 {ret F n ls st h k z} : eX6_rule ret F (n + 1) 4 ls st h k z = F 4 ls st h k z := amWp_cut rfl
theorem uX6_rule_4 {ret F n h} {v0 st x} : sX6_rule ret F n 4 [v0] (.int x :: st) h 0 0 = (eX6_rule ret F n 5 [v0] (st) h 0 0) := (amWs_dec dX6_rule_4 rfl).trans (amTrue rfl)
theorem wX6_rule_5 {ret F n h} {v0 st} : eX6_rule ret F (n + 1) 5 [v0] (st) h 0 0 = (amIsR v0 ∧ eX6_rule ret F n 6 [v0] (v0 :: st) h 0 0) := (amWp_dec rfl dX6_rule_5 rfl).trans rfl
theorem wX6_rule_6 {ret F n h} {v0 st} : eX6_rule ret F (n + 1) 6 [v0] (st) h 0 0 = (eX6_rule ret F n 8 [v0] (.int (nI 6) :: st) h 0 0) := (amWp_dec rfl dX6_rule_6 rfl).trans rfl
theorem wX6_rule_8 {ret F n h} {v0 st} : eX6_rule ret F (n + 1) 8 [v0] (st) h 0 0 = (eX6_rule ret F n 10 [v0] (.int (nI 115) :: st) h 0 0) := (amWp_dec rfl dX6_rule_8 rfl).trans rfl
theorem wX6_rule_10 {ret F n h} {v0 st} : eX6_rule ret F (n + 1) 10 [v0] (st) h 0 0 = (eX6_rule ret F n 12 [v0] (.int (nI 116) :: st) h 0 0) := (amWp_dec rfl dX6_rule_10 rfl).trans rfl
theorem wX6_rule_12 {ret F n h} {v0 st} : eX6_rule ret F (n + 1) 12 [v0] (st) h 0 0 = (eX6_rule ret F n 14 [v0] (.int (nI 101) :: st) h 0 0) := (amWp_dec rfl dX6_rule_12 rfl).trans rfl
theorem wX6_rule_14 {ret F n h} {v0 st} : eX6_rule ret F (n + 1) 14 [v0] (st) h 0 0 = (eX6_rule ret F n 16 [v0] (.int (nI 97) :: st) h 0 0) := (amWp_dec rfl dX6_rule_14 rfl).trans rfl
theorem wX6_rule_16 {ret F n h} {v0 x5 x4 x3 x2 x1 x0} : eX6_rule ret F (n + 1) 16 [v0] (.int x5 :: .int x4 :: .int x3 :: .int x2 :: .int x1 :: .ref x0 :: []) h 0 0 = (h.1 x0 = (0, 6) ∧ tX6_isWord [.ref x0, .int x1, .int x2, .int x3, .int x4, .int x5] h (fun v h => eX6_rule ret F n 19 [v0] (v.toList ++ ([])) h 0 0)) := (amWp_dec rfl dX6_rule_16 rfl).trans (amS4 (Nat.le_of_ble_eq_true rfl) (Nat.le_of_ble_eq_true rfl) (Nat.le_of_ble_eq_true rfl) (Nat.le_of_ble_eq_true rfl))
theorem wX6_rule_19 {ret F n h} {v0 st x} : eX6_rule ret F (n + 1) 19 [v0] (.int x :: st) h 0 0 = ((x = 0 → eX6_rule ret F n 56 [v0] (st) h 0 0) ∧ (¬ x = 0 → eX6_rule ret F n 22 [v0] (st) h 0 0)) := (amWp_dec rfl dX6_rule_19 rfl).trans rfl
theorem wX6_rule_22 {ret F n h} {v0 st} : eX6_rule ret F (n + 1) 22 [v0] (st) h 0 0 = (amIsR v0 ∧ eX6_rule ret F n 23 [v0] (v0 :: st) h 0 0) := (amWp_dec rfl dX6_rule_22 rfl).trans rfl
theorem wX6_rule_23 {ret F n h} {v0 a} : eX6_rule ret F (n + 1) 23 [v0] (.ref a :: []) h 0 0 = (h.1 a = (0, 6) ∧ eX6_rule ret F n 26 [v0] (va_rf (h.2.2.2.1 a 6) :: []) h 0 0) := (amWp_dec rfl dX6_rule_23 rfl).trans (amS4 (Nat.le_of_ble_eq_true rfl) (Nat.le_of_ble_eq_true rfl) (Nat.le_of_ble_eq_true rfl) (Nat.le_of_ble_eq_true rfl))
theorem wX6_rule_26 {ret F n h} {v0 st} : eX6_rule ret F (n + 1) 26 [v0] (st) h 0 0 = (amIsR v0 ∧ eX6_rule ret F n 27 [v0] (v0 :: st) h 0 0) := (amWp_dec rfl dX6_rule_26 rfl).trans rfl
theorem wX6_rule_27 {ret F n h} {v0 r0 a} : eX6_rule ret F (n + 1) 27 [v0] (.ref a :: r0 :: []) h 0 0 = (h.1 a = (0, 6) ∧ eX6_rule ret F n 30 [v0] (.int (h.2.1 a 25) :: r0 :: []) h 0 0) := (amWp_dec rfl dX6_rule_27 rfl).trans (amS4 (Nat.le_of_ble_eq_true rfl) (Nat.le_of_ble_eq_true rfl) (Nat.le_of_ble_eq_true rfl) (Nat.le_of_ble_eq_true rfl))
theorem wX6_rule_30 {ret F n h} {v0 st} : eX6_rule ret F (n + 1) 30 [v0] (st) h 0 0 = (eX6_rule ret F n 31 [v0] (.int (nI 4) :: st) h 0 0) := (amWp_dec rfl dX6_rule_30 rfl).trans rfl
theorem wX6_rule_31 {ret F n h} {v0 st y x} : eX6_rule ret F (n + 1) 31 [v0] (.int y :: .int x :: st) h 0 0 = (eX6_rule ret F n 32 [v0] (.int (x + y) :: st) h 0 0) := (amWp_dec rfl dX6_rule_31 rfl).trans rfl
theorem wX6_rule_32 {ret F n h} {v0 st x a} : eX6_rule ret F (n + 1) 32 [v0] (.int x :: .ref a :: st) h 0 0 = ((h.1 a).1 = 1 ∧ vp_in x (h.1 a).2 ∧ eX6_rule ret F n 33 [v0] (.int (h.2.1 a x.toNatClampNeg) :: st) h 0 0) := (amWp_dec rfl dX6_rule_32 rfl).trans rfl
theorem wX6_rule_33 {ret F n h} {v0 st} : eX6_rule ret F (n + 1) 33 [v0] (st) h 0 0 = (eX6_rule ret F n 35 [v0] (.int (nI 100) :: st) h 0 0) := (amWp_dec rfl dX6_rule_33 rfl).trans rfl
theorem wX6_rule_35 {ret F n h} {v0 st y x} : eX6_rule ret F (n + 1) 35 [v0] (.int y :: .int x :: st) h 0 0 = ((¬ x = y → eX6_rule ret F n 56 [v0] (st) h 0 0) ∧ (x = y → eX6_rule ret F n 38 [v0] (st) h 0 0)) := (amWp_dec rfl dX6_rule_35 rfl).trans rfl
theorem wX6_rule_38 {ret F n h} {v0 st} : eX6_rule ret F (n + 1) 38 [v0] (st) h 0 0 = (amIsR v0 ∧ eX6_rule ret F n 39 [v0] (v0 :: st) h 0 0) := (amWp_dec rfl dX6_rule_38 rfl).trans rfl
theorem wX6_rule_39 {ret F n h} {v0 a} : eX6_rule ret F (n + 1) 39 [v0] (.ref a :: []) h 0 0 = (h.1 a = (0, 6) ∧ eX6_rule ret F n 42 [v0] (va_rf (h.2.2.2.1 a 6) :: []) h 0 0) := (amWp_dec rfl dX6_rule_39 rfl).trans (amS4 (Nat.le_of_ble_eq_true rfl) (Nat.le_of_ble_eq_true rfl) (Nat.le_of_ble_eq_true rfl) (Nat.le_of_ble_eq_true rfl))
theorem wX6_rule_42 {ret F n h} {v0 st} : eX6_rule ret F (n + 1) 42 [v0] (st) h 0 0 = (amIsR v0 ∧ eX6_rule ret F n 43 [v0] (v0 :: st) h 0 0) := (amWp_dec rfl dX6_rule_42 rfl).trans rfl
theorem wX6_rule_43 {ret F n h} {v0 r0 a} : eX6_rule ret F (n + 1) 43 [v0] (.ref a :: r0 :: []) h 0 0 = (h.1 a = (0, 6) ∧ eX6_rule ret F n 46 [v0] (.int (h.2.1 a 25) :: r0 :: []) h 0 0) := (amWp_dec rfl dX6_rule_43 rfl).trans (amS4 (Nat.le_of_ble_eq_true rfl) (Nat.le_of_ble_eq_true rfl) (Nat.le_of_ble_eq_true rfl) (Nat.le_of_ble_eq_true rfl))
theorem wX6_rule_46 {ret F n h} {v0 st} : eX6_rule ret F (n + 1) 46 [v0] (st) h 0 0 = (eX6_rule ret F n 47 [v0] (.int (nI 5) :: st) h 0 0) := (amWp_dec rfl dX6_rule_46 rfl).trans rfl
theorem wX6_rule_47 {ret F n h} {v0 st y x} : eX6_rule ret F (n + 1) 47 [v0] (.int y :: .int x :: st) h 0 0 = (eX6_rule ret F n 48 [v0] (.int (x + y) :: st) h 0 0) := (amWp_dec rfl dX6_rule_47 rfl).trans rfl
theorem wX6_rule_48 {ret F n h} {v0 st x a} : eX6_rule ret F (n + 1) 48 [v0] (.int x :: .ref a :: st) h 0 0 = ((h.1 a).1 = 1 ∧ vp_in x (h.1 a).2 ∧ eX6_rule ret F n 49 [v0] (.int (h.2.1 a x.toNatClampNeg) :: st) h 0 0) := (amWp_dec rfl dX6_rule_48 rfl).trans rfl
theorem wX6_rule_49 {ret F n h} {v0 st} : eX6_rule ret F (n + 1) 49 [v0] (st) h 0 0 = (eX6_rule ret F n 51 [v0] (.int (nI 121) :: st) h 0 0) := (amWp_dec rfl dX6_rule_49 rfl).trans rfl
theorem wX6_rule_51 {ret F n h} {v0 st y x} : eX6_rule ret F (n + 1) 51 [v0] (.int y :: .int x :: st) h 0 0 = ((¬ x = y → eX6_rule ret F n 56 [v0] (st) h 0 0) ∧ (x = y → eX6_rule ret F n 54 [v0] (st) h 0 0)) := (amWp_dec rfl dX6_rule_51 rfl).trans rfl
theorem wX6_rule_54 {ret F n h} {v0 st} : eX6_rule ret F (n + 1) 54 [v0] (st) h 0 0 = (eX6_rule ret F n 55 [v0] (.int (nI 0) :: st) h 0 0) := (amWp_dec rfl dX6_rule_54 rfl).trans rfl
theorem wX6_rule_55 {ret F n h} {v0 x} : eX6_rule ret F (n + 1) 55 [v0] ([.int x]) h 0 0 = (ret (some (.int x)) h 0 0) := (amWp_dec rfl dX6_rule_55 rfl).trans (amTrue ⟨_, rfl, rfl⟩)
theorem wX6_rule_56 {ret F n ls st h k z} : eX6_rule ret F (n + 1) 56 ls st h k z = F 56 ls st h k z := amWp_cut rfl
theorem uX6_rule_56 {ret F n h} {v0 st} : sX6_rule ret F n 56 [v0] (st) h 0 0 = (amIsR v0 ∧ eX6_rule ret F n 57 [v0] (v0 :: st) h 0 0) := (amWs_dec dX6_rule_56 rfl).trans rfl
theorem wX6_rule_57 {ret F n h} {v0 st} : eX6_rule ret F (n + 1) 57 [v0] (st) h 0 0 = (eX6_rule ret F n 59 [v0] (.int (nI 7) :: st) h 0 0) := (amWp_dec rfl dX6_rule_57 rfl).trans rfl
theorem wX6_rule_59 {ret F n h} {v0 st} : eX6_rule ret F (n + 1) 59 [v0] (st) h 0 0 = (eX6_rule ret F n 61 [v0] (.int (nI 103) :: st) h 0 0) := (amWp_dec rfl dX6_rule_59 rfl).trans rfl
theorem wX6_rule_61 {ret F n h} {v0 st} : eX6_rule ret F (n + 1) 61 [v0] (st) h 0 0 = (eX6_rule ret F n 63 [v0] (.int (nI 114) :: st) h 0 0) := (amWp_dec rfl dX6_rule_61 rfl).trans rfl
theorem wX6_rule_63 {ret F n h} {v0 st} : eX6_rule ret F (n + 1) 63 [v0] (st) h 0 0 = (eX6_rule ret F n 65 [v0] (.int (nI 111) :: st) h 0 0) := (amWp_dec rfl dX6_rule_63 rfl).trans rfl
theorem wX6_rule_65 {ret F n h} {v0 st} : eX6_rule ret F (n + 1) 65 [v0] (st) h 0 0 = (eX6_rule ret F n 67 [v0] (.int (nI 119) :: st) h 0 0) := (amWp_dec rfl dX6_rule_65 rfl).trans rfl
theorem wX6_rule_67 {ret F n h} {v0 x5 x4 x3 x2 x1 x0} : eX6_rule ret F (n + 1) 67 [v0] (.int x5 :: .int x4 :: .int x3 :: .int x2 :: .int x1 :: .ref x0 :: []) h 0 0 = (h.1 x0 = (0, 6) ∧ tX6_isWord [.ref x0, .int x1, .int x2, .int x3, .int x4, .int x5] h (fun v h => eX6_rule ret F n 70 [v0] (v.toList ++ ([])) h 0 0)) := (amWp_dec rfl dX6_rule_67 rfl).trans (amS4 (Nat.le_of_ble_eq_true rfl) (Nat.le_of_ble_eq_true rfl) (Nat.le_of_ble_eq_true rfl) (Nat.le_of_ble_eq_true rfl))
theorem wX6_rule_70 {ret F n h} {v0 st x} : eX6_rule ret F (n + 1) 70 [v0] (.int x :: st) h 0 0 = ((x = 0 → eX6_rule ret F n 96 [v0] (st) h 0 0) ∧ (¬ x = 0 → eX6_rule ret F n 73 [v0] (st) h 0 0)) := (amWp_dec rfl dX6_rule_70 rfl).trans rfl
theorem wX6_rule_73 {ret F n h} {v0 st} : eX6_rule ret F (n + 1) 73 [v0] (st) h 0 0 = (amIsR v0 ∧ eX6_rule ret F n 74 [v0] (v0 :: st) h 0 0) := (amWp_dec rfl dX6_rule_73 rfl).trans rfl
theorem wX6_rule_74 {ret F n h} {v0 st} : eX6_rule ret F (n + 1) 74 [v0] (st) h 0 0 = (amIsR v0 ∧ eX6_rule ret F n 75 [v0] (v0 :: st) h 0 0) := (amWp_dec rfl dX6_rule_74 rfl).trans rfl
theorem wX6_rule_75 {ret F n h} {v0 r0 a} : eX6_rule ret F (n + 1) 75 [v0] (.ref a :: r0 :: []) h 0 0 = (h.1 a = (0, 6) ∧ eX6_rule ret F n 78 [v0] (.int (h.2.1 a 25) :: r0 :: []) h 0 0) := (amWp_dec rfl dX6_rule_75 rfl).trans (amS4 (Nat.le_of_ble_eq_true rfl) (Nat.le_of_ble_eq_true rfl) (Nat.le_of_ble_eq_true rfl) (Nat.le_of_ble_eq_true rfl))
theorem wX6_rule_78 {ret F n h} {v0 st} : eX6_rule ret F (n + 1) 78 [v0] (st) h 0 0 = (eX6_rule ret F n 79 [v0] (.int (nI 3) :: st) h 0 0) := (amWp_dec rfl dX6_rule_78 rfl).trans rfl
theorem wX6_rule_79 {ret F n h} {v0 st y x} : eX6_rule ret F (n + 1) 79 [v0] (.int y :: .int x :: st) h 0 0 = (eX6_rule ret F n 80 [v0] (.int (x + y) :: st) h 0 0) := (amWp_dec rfl dX6_rule_79 rfl).trans rfl
theorem wX6_rule_80 {ret F n h} {v0 st} : eX6_rule ret F (n + 1) 80 [v0] (st) h 0 0 = (eX6_rule ret F n 82 [v0] (.int (nI 119) :: st) h 0 0) := (amWp_dec rfl dX6_rule_80 rfl).trans rfl
theorem wX6_rule_82 {ret F n h} {v0 st} : eX6_rule ret F (n + 1) 82 [v0] (st) h 0 0 = (eX6_rule ret F n 84 [v0] (.int (nI 105) :: st) h 0 0) := (amWp_dec rfl dX6_rule_82 rfl).trans rfl
theorem wX6_rule_84 {ret F n h} {v0 st} : eX6_rule ret F (n + 1) 84 [v0] (st) h 0 0 = (eX6_rule ret F n 86 [v0] (.int (nI 110) :: st) h 0 0) := (amWp_dec rfl dX6_rule_84 rfl).trans rfl
theorem wX6_rule_86 {ret F n h} {v0 st} : eX6_rule ret F (n + 1) 86 [v0] (st) h 0 0 = (eX6_rule ret F n 88 [v0] (.int (nI 103) :: st) h 0 0) := (amWp_dec rfl dX6_rule_86 rfl).trans rfl
theorem wX6_rule_88 {ret F n h} {v0 x5 x4 x3 x2 x1 x0} : eX6_rule ret F (n + 1) 88 [v0] (.int x5 :: .int x4 :: .int x3 :: .int x2 :: .int x1 :: .ref x0 :: []) h 0 0 = (h.1 x0 = (0, 6) ∧ tX6_isMore [.ref x0, .int x1, .int x2, .int x3, .int x4, .int x5] h (fun v h => eX6_rule ret F n 91 [v0] (v.toList ++ ([])) h 0 0)) := (amWp_dec rfl dX6_rule_88 rfl).trans (amS4 (Nat.le_of_ble_eq_true rfl) (Nat.le_of_ble_eq_true rfl) (Nat.le_of_ble_eq_true rfl) (Nat.le_of_ble_eq_true rfl))
theorem wX6_rule_91 {ret F n h} {v0 st x} : eX6_rule ret F (n + 1) 91 [v0] (.int x :: st) h 0 0 = ((x = 0 → eX6_rule ret F n 96 [v0] (st) h 0 0) ∧ (¬ x = 0 → eX6_rule ret F n 94 [v0] (st) h 0 0)) := (amWp_dec rfl dX6_rule_91 rfl).trans rfl
theorem wX6_rule_94 {ret F n h} {v0 st} : eX6_rule ret F (n + 1) 94 [v0] (st) h 0 0 = (eX6_rule ret F n 95 [v0] (.int (nI 1) :: st) h 0 0) := (amWp_dec rfl dX6_rule_94 rfl).trans rfl
theorem wX6_rule_95 {ret F n h} {v0 x} : eX6_rule ret F (n + 1) 95 [v0] ([.int x]) h 0 0 = (ret (some (.int x)) h 0 0) := (amWp_dec rfl dX6_rule_95 rfl).trans (amTrue ⟨_, rfl, rfl⟩)
theorem wX6_rule_96 {ret F n ls st h k z} : eX6_rule ret F (n + 1) 96 ls st h k z = F 96 ls st h k z := amWp_cut rfl
theorem uX6_rule_96 {ret F n h} {v0 st} : sX6_rule ret F n 96 [v0] (st) h 0 0 = (amIsR v0 ∧ eX6_rule ret F n 97 [v0] (v0 :: st) h 0 0) := (amWs_dec dX6_rule_96 rfl).trans rfl
theorem wX6_rule_97 {ret F n h} {v0 st} : eX6_rule ret F (n + 1) 97 [v0] (st) h 0 0 = (eX6_rule ret F n 99 [v0] (.int (nI 8) :: st) h 0 0) := (amWp_dec rfl dX6_rule_97 rfl).trans rfl
theorem wX6_rule_99 {ret F n h} {v0 st} : eX6_rule ret F (n + 1) 99 [v0] (st) h 0 0 = (eX6_rule ret F n 101 [v0] (.int (nI 100) :: st) h 0 0) := (amWp_dec rfl dX6_rule_99 rfl).trans rfl
theorem wX6_rule_101 {ret F n h} {v0 st} : eX6_rule ret F (n + 1) 101 [v0] (st) h 0 0 = (eX6_rule ret F n 103 [v0] (.int (nI 111) :: st) h 0 0) := (amWp_dec rfl dX6_rule_101 rfl).trans rfl
theorem wX6_rule_103 {ret F n h} {v0 st} : eX6_rule ret F (n + 1) 103 [v0] (st) h 0 0 = (eX6_rule ret F n 105 [v0] (.int (nI 117) :: st) h 0 0) := (amWp_dec rfl dX6_rule_103 rfl).trans rfl
theorem wX6_rule_105 {ret F n h} {v0 st} : eX6_rule ret F (n + 1) 105 [v0] (st) h 0 0 = (eX6_rule ret F n 107 [v0] (.int (nI 98) :: st) h 0 0) := (amWp_dec rfl dX6_rule_105 rfl).trans rfl
theorem wX6_rule_107 {ret F n h} {v0 x5 x4 x3 x2 x1 x0} : eX6_rule ret F (n + 1) 107 [v0] (.int x5 :: .int x4 :: .int x3 :: .int x2 :: .int x1 :: .ref x0 :: []) h 0 0 = (h.1 x0 = (0, 6) ∧ tX6_isWord [.ref x0, .int x1, .int x2, .int x3, .int x4, .int x5] h (fun v h => eX6_rule ret F n 110 [v0] (v.toList ++ ([])) h 0 0)) := (amWp_dec rfl dX6_rule_107 rfl).trans (amS4 (Nat.le_of_ble_eq_true rfl) (Nat.le_of_ble_eq_true rfl) (Nat.le_of_ble_eq_true rfl) (Nat.le_of_ble_eq_true rfl))
theorem wX6_rule_110 {ret F n h} {v0 st x} : eX6_rule ret F (n + 1) 110 [v0] (.int x :: st) h 0 0 = ((x = 0 → eX6_rule ret F n 138 [v0] (st) h 0 0) ∧ (¬ x = 0 → eX6_rule ret F n 113 [v0] (st) h 0 0)) := (amWp_dec rfl dX6_rule_110 rfl).trans rfl
theorem wX6_rule_113 {ret F n h} {v0 st} : eX6_rule ret F (n + 1) 113 [v0] (st) h 0 0 = (amIsR v0 ∧ eX6_rule ret F n 114 [v0] (v0 :: st) h 0 0) := (amWp_dec rfl dX6_rule_113 rfl).trans rfl
theorem wX6_rule_114 {ret F n h} {v0 st} : eX6_rule ret F (n + 1) 114 [v0] (st) h 0 0 = (amIsR v0 ∧ eX6_rule ret F n 115 [v0] (v0 :: st) h 0 0) := (amWp_dec rfl dX6_rule_114 rfl).trans rfl
theorem wX6_rule_115 {ret F n h} {v0 r0 a} : eX6_rule ret F (n + 1) 115 [v0] (.ref a :: r0 :: []) h 0 0 = (h.1 a = (0, 6) ∧ eX6_rule ret F n 118 [v0] (.int (h.2.1 a 25) :: r0 :: []) h 0 0) := (amWp_dec rfl dX6_rule_115 rfl).trans (amS4 (Nat.le_of_ble_eq_true rfl) (Nat.le_of_ble_eq_true rfl) (Nat.le_of_ble_eq_true rfl) (Nat.le_of_ble_eq_true rfl))
theorem wX6_rule_118 {ret F n h} {v0 st} : eX6_rule ret F (n + 1) 118 [v0] (st) h 0 0 = (eX6_rule ret F n 119 [v0] (.int (nI 4) :: st) h 0 0) := (amWp_dec rfl dX6_rule_118 rfl).trans rfl
theorem wX6_rule_119 {ret F n h} {v0 st y x} : eX6_rule ret F (n + 1) 119 [v0] (.int y :: .int x :: st) h 0 0 = (eX6_rule ret F n 120 [v0] (.int (x + y) :: st) h 0 0) := (amWp_dec rfl dX6_rule_119 rfl).trans rfl
theorem wX6_rule_120 {ret F n h} {v0 st} : eX6_rule ret F (n + 1) 120 [v0] (st) h 0 0 = (eX6_rule ret F n 122 [v0] (.int (nI 108) :: st) h 0 0) := (amWp_dec rfl dX6_rule_120 rfl).trans rfl
theorem wX6_rule_122 {ret F n h} {v0 st} : eX6_rule ret F (n + 1) 122 [v0] (st) h 0 0 = (eX6_rule ret F n 124 [v0] (.int (nI 105) :: st) h 0 0) := (amWp_dec rfl dX6_rule_122 rfl).trans rfl
theorem wX6_rule_124 {ret F n h} {v0 st} : eX6_rule ret F (n + 1) 124 [v0] (st) h 0 0 = (eX6_rule ret F n 126 [v0] (.int (nI 110) :: st) h 0 0) := (amWp_dec rfl dX6_rule_124 rfl).trans rfl
theorem wX6_rule_126 {ret F n h} {v0 st} : eX6_rule ret F (n + 1) 126 [v0] (st) h 0 0 = (eX6_rule ret F n 128 [v0] (.int (nI 103) :: st) h 0 0) := (amWp_dec rfl dX6_rule_126 rfl).trans rfl
theorem wX6_rule_128 {ret F n h} {v0 x5 x4 x3 x2 x1 x0} : eX6_rule ret F (n + 1) 128 [v0] (.int x5 :: .int x4 :: .int x3 :: .int x2 :: .int x1 :: .ref x0 :: []) h 0 0 = (h.1 x0 = (0, 6) ∧ tX6_isMore [.ref x0, .int x1, .int x2, .int x3, .int x4, .int x5] h (fun v h => eX6_rule ret F n 131 [v0] (v.toList ++ ([])) h 0 0)) := (amWp_dec rfl dX6_rule_128 rfl).trans (amS4 (Nat.le_of_ble_eq_true rfl) (Nat.le_of_ble_eq_true rfl) (Nat.le_of_ble_eq_true rfl) (Nat.le_of_ble_eq_true rfl))
theorem wX6_rule_131 {ret F n h} {v0 st x} : eX6_rule ret F (n + 1) 131 [v0] (.int x :: st) h 0 0 = ((x = 0 → eX6_rule ret F n 138 [v0] (st) h 0 0) ∧ (¬ x = 0 → eX6_rule ret F n 134 [v0] (st) h 0 0)) := (amWp_dec rfl dX6_rule_131 rfl).trans rfl
theorem wX6_rule_134 {ret F n h} {v0 st} : eX6_rule ret F (n + 1) 134 [v0] (st) h 0 0 = (eX6_rule ret F n 135 [v0] (.int (nI 2) :: st) h 0 0) := (amWp_dec rfl dX6_rule_134 rfl).trans rfl
theorem wX6_rule_135 {ret F n h} {v0 st} : eX6_rule ret F (n + 1) 135 [v0] (st) h 0 0 = (eX6_rule ret F n 140 [v0] (st) h 0 0) := (amWp_dec rfl dX6_rule_135 rfl).trans rfl
theorem wX6_rule_138 {ret F n h} {v0 st} : eX6_rule ret F (n + 1) 138 [v0] (st) h 0 0 = (eX6_rule ret F n 140 [v0] (.int (-4) :: st) h 0 0) := (amWp_dec rfl dX6_rule_138 rfl).trans rfl
theorem wX6_rule_140 {ret F n h} {v0 x} : eX6_rule ret F (n + 1) 140 [v0] ([.int x]) h 0 0 = (ret (some (.int x)) h 0 0) := (amWp_dec rfl dX6_rule_140 rfl).trans (amTrue ⟨_, rfl, rfl⟩)
theorem evX6_rule (l : Launch) (G : amG) : ∀ pc S i sz, amLk rX6_rule pc = some S → decode cX6_rule pc = .ok (i, sz) → amSiteP pc G l yX6_rule.cls yX6_rule.name yX6_rule.desc (amRm 4 0 0) i sz S.1 S.2.1 S.2.2.1 S.2.2.2 := amLk_ok (by
  refine List.forall_mem_cons.mpr ⟨⟨_, _, dX6_rule_1, amSite.P (amSiteV (C := RX6) (metX6_here l G) rfl (by decide) (by decide) (lw_V q1613 q1615 qs74 q94 q1616) ⟨_, rfl, rfl⟩ ⟨rfl, by decide +kernel, by decide +kernel, by decide +kernel⟩)⟩, ?_⟩
  refine List.forall_mem_cons.mpr ⟨⟨_, _, dX6_rule_16, amSite.P (amSiteV (C := RX6) (metX6_isWord l G) rfl (by decide) (by decide) (lw_V q1617 q1619 qs75 q94 q1620) ⟨_, rfl, rfl⟩ ⟨rfl, by decide +kernel, by decide +kernel, by decide +kernel⟩)⟩, ?_⟩
  refine List.forall_mem_cons.mpr ⟨⟨_, _, dX6_rule_23, amSite.P (amSiteGet ⟨_, rfl, by decide, Or.inl q1301⟩)⟩, ?_⟩
  refine List.forall_mem_cons.mpr ⟨⟨_, _, dX6_rule_27, amSite.P (amSiteGet ⟨_, rfl, by decide, Or.inl q1320⟩)⟩, ?_⟩
  refine List.forall_mem_cons.mpr ⟨⟨_, _, dX6_rule_39, amSite.P (amSiteGet ⟨_, rfl, by decide, Or.inl q1301⟩)⟩, ?_⟩
  refine List.forall_mem_cons.mpr ⟨⟨_, _, dX6_rule_43, amSite.P (amSiteGet ⟨_, rfl, by decide, Or.inl q1320⟩)⟩, ?_⟩
  refine List.forall_mem_cons.mpr ⟨⟨_, _, dX6_rule_67, amSite.P (amSiteV (C := RX6) (metX6_isWord l G) rfl (by decide) (by decide) (lw_V q1617 q1619 qs75 q94 q1620) ⟨_, rfl, rfl⟩ ⟨rfl, by decide +kernel, by decide +kernel, by decide +kernel⟩)⟩, ?_⟩
  refine List.forall_mem_cons.mpr ⟨⟨_, _, dX6_rule_75, amSite.P (amSiteGet ⟨_, rfl, by decide, Or.inl q1320⟩)⟩, ?_⟩
  refine List.forall_mem_cons.mpr ⟨⟨_, _, dX6_rule_88, amSite.P (amSiteV (C := RX6) (metX6_isMore l G) rfl (by decide) (by decide) (lw_V q1625 q1627 qs77 q94 q1628) ⟨_, rfl, rfl⟩ ⟨rfl, by decide +kernel, by decide +kernel, by decide +kernel⟩)⟩, ?_⟩
  refine List.forall_mem_cons.mpr ⟨⟨_, _, dX6_rule_107, amSite.P (amSiteV (C := RX6) (metX6_isWord l G) rfl (by decide) (by decide) (lw_V q1617 q1619 qs75 q94 q1620) ⟨_, rfl, rfl⟩ ⟨rfl, by decide +kernel, by decide +kernel, by decide +kernel⟩)⟩, ?_⟩
  refine List.forall_mem_cons.mpr ⟨⟨_, _, dX6_rule_115, amSite.P (amSiteGet ⟨_, rfl, by decide, Or.inl q1320⟩)⟩, ?_⟩
  refine List.forall_mem_cons.mpr ⟨⟨_, _, dX6_rule_128, amSite.P (amSiteV (C := RX6) (metX6_isMore l G) rfl (by decide) (by decide) (lw_V q1625 q1627 qs77 q94 q1628) ⟨_, rfl, rfl⟩ ⟨rfl, by decide +kernel, by decide +kernel, by decide +kernel⟩)⟩, ?_⟩
  exact fun _ h => absurd h List.not_mem_nil)
theorem goX6_rule {ret F} (hF : amCld cX6_rule kX6_rule (amLk rX6_rule) (some .int) 0 0 ret F) (n : Nat) {pc ls st h k z} (q : sX6_rule ret F n pc ls st h k z) : F pc ls st h k z := hF.1 n pc ls st h k z q
theorem metX6_rule (l : Launch) (G : amG) : amMet l G yX6_rule (ws_ yX6_rule cX6_rule 1 (some .int)) 4 0 0 tX6_rule := by
  refine amMet_of (cut := kX6_rule) (by decide +kernel) (evX6_rule l G) ?_
  intro as h K hT
  match as, hT with
  | [.ref a], ⟨t, p, e, hR, hT, hp, pl, hK⟩ =>
  refine ⟨Nat.le_of_ble_eq_true rfl, fun F hF => ?_⟩
  show F 0 [.ref a] [] h 0 0
  obtain ⟨a, rfl⟩ : ∃ i : Nat, i = a := ⟨_, rfl⟩
  subst e
  refine goX6_rule hF 60 ?_
  simp (disch := omega) only [wX6_rule_0, uX6_rule_0, wX6_rule_1, wX6_rule_4, uX6_rule_4, wX6_rule_5, wX6_rule_6, wX6_rule_8, wX6_rule_10, wX6_rule_12, wX6_rule_14, wX6_rule_16, wX6_rule_19, wX6_rule_22, wX6_rule_23, wX6_rule_26, wX6_rule_27, wX6_rule_30, wX6_rule_31, wX6_rule_32, wX6_rule_33, wX6_rule_35, wX6_rule_38, wX6_rule_39, wX6_rule_42, wX6_rule_43, wX6_rule_46, wX6_rule_47, wX6_rule_48, wX6_rule_49, wX6_rule_51, wX6_rule_54, wX6_rule_55, wX6_rule_56, uX6_rule_56, wX6_rule_57, wX6_rule_59, wX6_rule_61, wX6_rule_63, wX6_rule_65, wX6_rule_67, wX6_rule_70, wX6_rule_73, wX6_rule_74, wX6_rule_75, wX6_rule_78, wX6_rule_79, wX6_rule_80, wX6_rule_82, wX6_rule_84, wX6_rule_86, wX6_rule_88, wX6_rule_91, wX6_rule_94, wX6_rule_95, wX6_rule_96, uX6_rule_96, wX6_rule_97, wX6_rule_99, wX6_rule_101, wX6_rule_103, wX6_rule_105, wX6_rule_107, wX6_rule_110, wX6_rule_113, wX6_rule_114, wX6_rule_115, wX6_rule_118, wX6_rule_119, wX6_rule_120, wX6_rule_122, wX6_rule_124, wX6_rule_126, wX6_rule_128, wX6_rule_131, wX6_rule_134, wX6_rule_135, wX6_rule_138, wX6_rule_140, amSI_1, amSI_2, amSI_3, amSI_s, amU_at, amIsR_ref, amIsR_null, amIsR_rf, amRf_some, amRf_none, amClr_int, amClr_ref, amClr_null, amClr_long, amClr_ra, amClr_rf, amFit_int, amFit_oref, amFit_aref, amFit_onull, amFit_anull, amOptSome, amOptNone, List.cons_append, List.nil_append, true_and, and_true, true_implies, not_true_eq_false, not_false_eq_true, false_implies, and_self, Nat.add_zero, Nat.zero_add, ne_eq, Prod.mk.injEq, amC01_0, amC01_1, amC01_nb, amNb0, amNb1, amTcpI_d, Nat.reduceLeDiff, Nat.reduceAdd, Nat.reduceSub, Nat.reduceEqDiff, Nat.le_refl, amN0le, hR.s, hR.r]
  refine mHere hR hT hp pl (fun m q1 f1 => ?_)
  have key := hK m q1 f1
  have hT1 := hT.kept f1
  have tt := hT1.1.2.2
  have hO := hT.2
  have k := (skip_le pl).2.1
  generalize skip t p = s at q1 key k
  have s96 : ¬ isW t s wd0 → ¬ isW t s wd1 → F 96 [.ref 124] [] (amSI h m) 0 0 := by
    intro z0 z1
    refine goX6_rule hF 60 ?_
    simp (disch := omega) only [wX6_rule_0, uX6_rule_0, wX6_rule_1, wX6_rule_4, uX6_rule_4, wX6_rule_5, wX6_rule_6, wX6_rule_8, wX6_rule_10, wX6_rule_12, wX6_rule_14, wX6_rule_16, wX6_rule_19, wX6_rule_22, wX6_rule_23, wX6_rule_26, wX6_rule_27, wX6_rule_30, wX6_rule_31, wX6_rule_32, wX6_rule_33, wX6_rule_35, wX6_rule_38, wX6_rule_39, wX6_rule_42, wX6_rule_43, wX6_rule_46, wX6_rule_47, wX6_rule_48, wX6_rule_49, wX6_rule_51, wX6_rule_54, wX6_rule_55, wX6_rule_56, uX6_rule_56, wX6_rule_57, wX6_rule_59, wX6_rule_61, wX6_rule_63, wX6_rule_65, wX6_rule_67, wX6_rule_70, wX6_rule_73, wX6_rule_74, wX6_rule_75, wX6_rule_78, wX6_rule_79, wX6_rule_80, wX6_rule_82, wX6_rule_84, wX6_rule_86, wX6_rule_88, wX6_rule_91, wX6_rule_94, wX6_rule_95, wX6_rule_96, uX6_rule_96, wX6_rule_97, wX6_rule_99, wX6_rule_101, wX6_rule_103, wX6_rule_105, wX6_rule_107, wX6_rule_110, wX6_rule_113, wX6_rule_114, wX6_rule_115, wX6_rule_118, wX6_rule_119, wX6_rule_120, wX6_rule_122, wX6_rule_124, wX6_rule_126, wX6_rule_128, wX6_rule_131, wX6_rule_134, wX6_rule_135, wX6_rule_138, wX6_rule_140, amSI_1, amSI_2, amSI_3, amSI_s, amU_at, amIsR_ref, amIsR_null, amIsR_rf, amRf_some, amRf_none, amClr_int, amClr_ref, amClr_null, amClr_long, amClr_ra, amClr_rf, amFit_int, amFit_oref, amFit_aref, amFit_onull, amFit_anull, amOptSome, amOptNone, List.cons_append, List.nil_append, true_and, and_true, true_implies, not_true_eq_false, not_false_eq_true, false_implies, and_self, Nat.add_zero, Nat.zero_add, ne_eq, Prod.mk.injEq, amC01_0, amC01_1, amC01_nb, amNb0, amNb1, amTcpI_d, Nat.reduceLeDiff, Nat.reduceAdd, Nat.reduceSub, Nat.reduceEqDiff, Nat.le_refl, amN0le, hR.s, hR.r]
    refine mIsWord hR hT1 q1 k (by decide) (by decide) ?_
    simp (disch := omega) only [wX6_rule_0, uX6_rule_0, wX6_rule_1, wX6_rule_4, uX6_rule_4, wX6_rule_5, wX6_rule_6, wX6_rule_8, wX6_rule_10, wX6_rule_12, wX6_rule_14, wX6_rule_16, wX6_rule_19, wX6_rule_22, wX6_rule_23, wX6_rule_26, wX6_rule_27, wX6_rule_30, wX6_rule_31, wX6_rule_32, wX6_rule_33, wX6_rule_35, wX6_rule_38, wX6_rule_39, wX6_rule_42, wX6_rule_43, wX6_rule_46, wX6_rule_47, wX6_rule_48, wX6_rule_49, wX6_rule_51, wX6_rule_54, wX6_rule_55, wX6_rule_56, uX6_rule_56, wX6_rule_57, wX6_rule_59, wX6_rule_61, wX6_rule_63, wX6_rule_65, wX6_rule_67, wX6_rule_70, wX6_rule_73, wX6_rule_74, wX6_rule_75, wX6_rule_78, wX6_rule_79, wX6_rule_80, wX6_rule_82, wX6_rule_84, wX6_rule_86, wX6_rule_88, wX6_rule_91, wX6_rule_94, wX6_rule_95, wX6_rule_96, uX6_rule_96, wX6_rule_97, wX6_rule_99, wX6_rule_101, wX6_rule_103, wX6_rule_105, wX6_rule_107, wX6_rule_110, wX6_rule_113, wX6_rule_114, wX6_rule_115, wX6_rule_118, wX6_rule_119, wX6_rule_120, wX6_rule_122, wX6_rule_124, wX6_rule_126, wX6_rule_128, wX6_rule_131, wX6_rule_134, wX6_rule_135, wX6_rule_138, wX6_rule_140, amSI_1, amSI_2, amSI_3, amSI_s, amU_at, amIsR_ref, amIsR_null, amIsR_rf, amRf_some, amRf_none, amClr_int, amClr_ref, amClr_null, amClr_long, amClr_ra, amClr_rf, amFit_int, amFit_oref, amFit_aref, amFit_onull, amFit_anull, amOptSome, amOptNone, List.cons_append, List.nil_append, true_and, and_true, true_implies, not_true_eq_false, not_false_eq_true, false_implies, and_self, Nat.add_zero, Nat.zero_add, ne_eq, Prod.mk.injEq, amC01_0, amC01_1, amC01_nb, amNb0, amNb1, amTcpI_d, Nat.reduceLeDiff, Nat.reduceAdd, Nat.reduceSub, Nat.reduceEqDiff, Nat.le_refl, amN0le, hR.s, hR.r, amLeI, amLtI, amEqI, amLe0, amGt0, amEq0, amNotPosI, amGe0, amVI, amCl_nI, amAdd, amSub, amMul, q1]
    refine ⟨fun z => ?_, fun z => ?_⟩
    · rw [ruleW_n z0 z1 (fun y => z (isW2.mp y).1)] at key
      exact amRet.of (by decide) (by decide) key
    · have z : hd4 t s 8 100 111 117 98 := Classical.not_not.mp z
      refine mIsMore hR hT1 (p := s + 4) (by omega) (by decide) ?_
      simp (disch := omega) only [wX6_rule_0, uX6_rule_0, wX6_rule_1, wX6_rule_4, uX6_rule_4, wX6_rule_5, wX6_rule_6, wX6_rule_8, wX6_rule_10, wX6_rule_12, wX6_rule_14, wX6_rule_16, wX6_rule_19, wX6_rule_22, wX6_rule_23, wX6_rule_26, wX6_rule_27, wX6_rule_30, wX6_rule_31, wX6_rule_32, wX6_rule_33, wX6_rule_35, wX6_rule_38, wX6_rule_39, wX6_rule_42, wX6_rule_43, wX6_rule_46, wX6_rule_47, wX6_rule_48, wX6_rule_49, wX6_rule_51, wX6_rule_54, wX6_rule_55, wX6_rule_56, uX6_rule_56, wX6_rule_57, wX6_rule_59, wX6_rule_61, wX6_rule_63, wX6_rule_65, wX6_rule_67, wX6_rule_70, wX6_rule_73, wX6_rule_74, wX6_rule_75, wX6_rule_78, wX6_rule_79, wX6_rule_80, wX6_rule_82, wX6_rule_84, wX6_rule_86, wX6_rule_88, wX6_rule_91, wX6_rule_94, wX6_rule_95, wX6_rule_96, uX6_rule_96, wX6_rule_97, wX6_rule_99, wX6_rule_101, wX6_rule_103, wX6_rule_105, wX6_rule_107, wX6_rule_110, wX6_rule_113, wX6_rule_114, wX6_rule_115, wX6_rule_118, wX6_rule_119, wX6_rule_120, wX6_rule_122, wX6_rule_124, wX6_rule_126, wX6_rule_128, wX6_rule_131, wX6_rule_134, wX6_rule_135, wX6_rule_138, wX6_rule_140, amSI_1, amSI_2, amSI_3, amSI_s, amU_at, amIsR_ref, amIsR_null, amIsR_rf, amRf_some, amRf_none, amClr_int, amClr_ref, amClr_null, amClr_long, amClr_ra, amClr_rf, amFit_int, amFit_oref, amFit_aref, amFit_onull, amFit_anull, amOptSome, amOptNone, List.cons_append, List.nil_append, true_and, and_true, true_implies, not_true_eq_false, not_false_eq_true, false_implies, and_self, Nat.add_zero, Nat.zero_add, ne_eq, Prod.mk.injEq, amC01_0, amC01_1, amC01_nb, amNb0, amNb1, amTcpI_d, Nat.reduceLeDiff, Nat.reduceAdd, Nat.reduceSub, Nat.reduceEqDiff, Nat.le_refl, amN0le, hR.s, hR.r, amLeI, amLtI, amEqI, amLe0, amGt0, amEq0, amNotPosI, amGe0, amVI, amCl_nI, amAdd, amSub, amMul]
      refine ⟨fun y => ?_, fun y => ?_⟩
      · rw [ruleW_n z0 z1 (fun x => y (isW2.mp x).2)] at key
        exact amRet.of (by decide) (by decide) key
      · rw [ruleW_2 z0 z1 (isW2.mpr ⟨z, Classical.not_not.mp y⟩)] at key
        exact amRet.of (by decide) (by decide) key
  have s56 : ¬ isW t s wd0 → F 56 [.ref 124] [] (amSI h m) 0 0 := by
    intro z0
    refine goX6_rule hF 60 ?_
    simp (disch := omega) only [wX6_rule_0, uX6_rule_0, wX6_rule_1, wX6_rule_4, uX6_rule_4, wX6_rule_5, wX6_rule_6, wX6_rule_8, wX6_rule_10, wX6_rule_12, wX6_rule_14, wX6_rule_16, wX6_rule_19, wX6_rule_22, wX6_rule_23, wX6_rule_26, wX6_rule_27, wX6_rule_30, wX6_rule_31, wX6_rule_32, wX6_rule_33, wX6_rule_35, wX6_rule_38, wX6_rule_39, wX6_rule_42, wX6_rule_43, wX6_rule_46, wX6_rule_47, wX6_rule_48, wX6_rule_49, wX6_rule_51, wX6_rule_54, wX6_rule_55, wX6_rule_56, uX6_rule_56, wX6_rule_57, wX6_rule_59, wX6_rule_61, wX6_rule_63, wX6_rule_65, wX6_rule_67, wX6_rule_70, wX6_rule_73, wX6_rule_74, wX6_rule_75, wX6_rule_78, wX6_rule_79, wX6_rule_80, wX6_rule_82, wX6_rule_84, wX6_rule_86, wX6_rule_88, wX6_rule_91, wX6_rule_94, wX6_rule_95, wX6_rule_96, uX6_rule_96, wX6_rule_97, wX6_rule_99, wX6_rule_101, wX6_rule_103, wX6_rule_105, wX6_rule_107, wX6_rule_110, wX6_rule_113, wX6_rule_114, wX6_rule_115, wX6_rule_118, wX6_rule_119, wX6_rule_120, wX6_rule_122, wX6_rule_124, wX6_rule_126, wX6_rule_128, wX6_rule_131, wX6_rule_134, wX6_rule_135, wX6_rule_138, wX6_rule_140, amSI_1, amSI_2, amSI_3, amSI_s, amU_at, amIsR_ref, amIsR_null, amIsR_rf, amRf_some, amRf_none, amClr_int, amClr_ref, amClr_null, amClr_long, amClr_ra, amClr_rf, amFit_int, amFit_oref, amFit_aref, amFit_onull, amFit_anull, amOptSome, amOptNone, List.cons_append, List.nil_append, true_and, and_true, true_implies, not_true_eq_false, not_false_eq_true, false_implies, and_self, Nat.add_zero, Nat.zero_add, ne_eq, Prod.mk.injEq, amC01_0, amC01_1, amC01_nb, amNb0, amNb1, amTcpI_d, Nat.reduceLeDiff, Nat.reduceAdd, Nat.reduceSub, Nat.reduceEqDiff, Nat.le_refl, amN0le, hR.s, hR.r]
    refine mIsWord hR hT1 q1 k (by decide) (by decide) ?_
    simp (disch := omega) only [wX6_rule_0, uX6_rule_0, wX6_rule_1, wX6_rule_4, uX6_rule_4, wX6_rule_5, wX6_rule_6, wX6_rule_8, wX6_rule_10, wX6_rule_12, wX6_rule_14, wX6_rule_16, wX6_rule_19, wX6_rule_22, wX6_rule_23, wX6_rule_26, wX6_rule_27, wX6_rule_30, wX6_rule_31, wX6_rule_32, wX6_rule_33, wX6_rule_35, wX6_rule_38, wX6_rule_39, wX6_rule_42, wX6_rule_43, wX6_rule_46, wX6_rule_47, wX6_rule_48, wX6_rule_49, wX6_rule_51, wX6_rule_54, wX6_rule_55, wX6_rule_56, uX6_rule_56, wX6_rule_57, wX6_rule_59, wX6_rule_61, wX6_rule_63, wX6_rule_65, wX6_rule_67, wX6_rule_70, wX6_rule_73, wX6_rule_74, wX6_rule_75, wX6_rule_78, wX6_rule_79, wX6_rule_80, wX6_rule_82, wX6_rule_84, wX6_rule_86, wX6_rule_88, wX6_rule_91, wX6_rule_94, wX6_rule_95, wX6_rule_96, uX6_rule_96, wX6_rule_97, wX6_rule_99, wX6_rule_101, wX6_rule_103, wX6_rule_105, wX6_rule_107, wX6_rule_110, wX6_rule_113, wX6_rule_114, wX6_rule_115, wX6_rule_118, wX6_rule_119, wX6_rule_120, wX6_rule_122, wX6_rule_124, wX6_rule_126, wX6_rule_128, wX6_rule_131, wX6_rule_134, wX6_rule_135, wX6_rule_138, wX6_rule_140, amSI_1, amSI_2, amSI_3, amSI_s, amU_at, amIsR_ref, amIsR_null, amIsR_rf, amRf_some, amRf_none, amClr_int, amClr_ref, amClr_null, amClr_long, amClr_ra, amClr_rf, amFit_int, amFit_oref, amFit_aref, amFit_onull, amFit_anull, amOptSome, amOptNone, List.cons_append, List.nil_append, true_and, and_true, true_implies, not_true_eq_false, not_false_eq_true, false_implies, and_self, Nat.add_zero, Nat.zero_add, ne_eq, Prod.mk.injEq, amC01_0, amC01_1, amC01_nb, amNb0, amNb1, amTcpI_d, Nat.reduceLeDiff, Nat.reduceAdd, Nat.reduceSub, Nat.reduceEqDiff, Nat.le_refl, amN0le, hR.s, hR.r, amLeI, amLtI, amEqI, amLe0, amGt0, amEq0, amNotPosI, amGe0, amVI, amCl_nI, amAdd, amSub, amMul, q1]
    refine ⟨fun z => s96 z0 (fun y => z (isW1.mp y).1), fun z => ?_⟩
    have z : hd4 t s 7 103 114 111 119 := Classical.not_not.mp z
    refine mIsMore hR hT1 (p := s + 3) (by omega) (by decide) ?_
    simp (disch := omega) only [wX6_rule_0, uX6_rule_0, wX6_rule_1, wX6_rule_4, uX6_rule_4, wX6_rule_5, wX6_rule_6, wX6_rule_8, wX6_rule_10, wX6_rule_12, wX6_rule_14, wX6_rule_16, wX6_rule_19, wX6_rule_22, wX6_rule_23, wX6_rule_26, wX6_rule_27, wX6_rule_30, wX6_rule_31, wX6_rule_32, wX6_rule_33, wX6_rule_35, wX6_rule_38, wX6_rule_39, wX6_rule_42, wX6_rule_43, wX6_rule_46, wX6_rule_47, wX6_rule_48, wX6_rule_49, wX6_rule_51, wX6_rule_54, wX6_rule_55, wX6_rule_56, uX6_rule_56, wX6_rule_57, wX6_rule_59, wX6_rule_61, wX6_rule_63, wX6_rule_65, wX6_rule_67, wX6_rule_70, wX6_rule_73, wX6_rule_74, wX6_rule_75, wX6_rule_78, wX6_rule_79, wX6_rule_80, wX6_rule_82, wX6_rule_84, wX6_rule_86, wX6_rule_88, wX6_rule_91, wX6_rule_94, wX6_rule_95, wX6_rule_96, uX6_rule_96, wX6_rule_97, wX6_rule_99, wX6_rule_101, wX6_rule_103, wX6_rule_105, wX6_rule_107, wX6_rule_110, wX6_rule_113, wX6_rule_114, wX6_rule_115, wX6_rule_118, wX6_rule_119, wX6_rule_120, wX6_rule_122, wX6_rule_124, wX6_rule_126, wX6_rule_128, wX6_rule_131, wX6_rule_134, wX6_rule_135, wX6_rule_138, wX6_rule_140, amSI_1, amSI_2, amSI_3, amSI_s, amU_at, amIsR_ref, amIsR_null, amIsR_rf, amRf_some, amRf_none, amClr_int, amClr_ref, amClr_null, amClr_long, amClr_ra, amClr_rf, amFit_int, amFit_oref, amFit_aref, amFit_onull, amFit_anull, amOptSome, amOptNone, List.cons_append, List.nil_append, true_and, and_true, true_implies, not_true_eq_false, not_false_eq_true, false_implies, and_self, Nat.add_zero, Nat.zero_add, ne_eq, Prod.mk.injEq, amC01_0, amC01_1, amC01_nb, amNb0, amNb1, amTcpI_d, Nat.reduceLeDiff, Nat.reduceAdd, Nat.reduceSub, Nat.reduceEqDiff, Nat.le_refl, amN0le, hR.s, hR.r, amLeI, amLtI, amEqI, amLe0, amGt0, amEq0, amNotPosI, amGe0, amVI, amCl_nI, amAdd, amSub, amMul]
    refine ⟨fun y => s96 z0 (fun x => y (isW1.mp x).2), fun y => ?_⟩
    rw [ruleW_1 z0 (isW1.mpr ⟨z, Classical.not_not.mp y⟩)] at key
    exact amRet.of (by decide) (by decide) key
  refine goX6_rule hF 60 ?_
  simp (disch := omega) only [wX6_rule_0, uX6_rule_0, wX6_rule_1, wX6_rule_4, uX6_rule_4, wX6_rule_5, wX6_rule_6, wX6_rule_8, wX6_rule_10, wX6_rule_12, wX6_rule_14, wX6_rule_16, wX6_rule_19, wX6_rule_22, wX6_rule_23, wX6_rule_26, wX6_rule_27, wX6_rule_30, wX6_rule_31, wX6_rule_32, wX6_rule_33, wX6_rule_35, wX6_rule_38, wX6_rule_39, wX6_rule_42, wX6_rule_43, wX6_rule_46, wX6_rule_47, wX6_rule_48, wX6_rule_49, wX6_rule_51, wX6_rule_54, wX6_rule_55, wX6_rule_56, uX6_rule_56, wX6_rule_57, wX6_rule_59, wX6_rule_61, wX6_rule_63, wX6_rule_65, wX6_rule_67, wX6_rule_70, wX6_rule_73, wX6_rule_74, wX6_rule_75, wX6_rule_78, wX6_rule_79, wX6_rule_80, wX6_rule_82, wX6_rule_84, wX6_rule_86, wX6_rule_88, wX6_rule_91, wX6_rule_94, wX6_rule_95, wX6_rule_96, uX6_rule_96, wX6_rule_97, wX6_rule_99, wX6_rule_101, wX6_rule_103, wX6_rule_105, wX6_rule_107, wX6_rule_110, wX6_rule_113, wX6_rule_114, wX6_rule_115, wX6_rule_118, wX6_rule_119, wX6_rule_120, wX6_rule_122, wX6_rule_124, wX6_rule_126, wX6_rule_128, wX6_rule_131, wX6_rule_134, wX6_rule_135, wX6_rule_138, wX6_rule_140, amSI_1, amSI_2, amSI_3, amSI_s, amU_at, amIsR_ref, amIsR_null, amIsR_rf, amRf_some, amRf_none, amClr_int, amClr_ref, amClr_null, amClr_long, amClr_ra, amClr_rf, amFit_int, amFit_oref, amFit_aref, amFit_onull, amFit_anull, amOptSome, amOptNone, List.cons_append, List.nil_append, true_and, and_true, true_implies, not_true_eq_false, not_false_eq_true, false_implies, and_self, Nat.add_zero, Nat.zero_add, ne_eq, Prod.mk.injEq, amC01_0, amC01_1, amC01_nb, amNb0, amNb1, amTcpI_d, Nat.reduceLeDiff, Nat.reduceAdd, Nat.reduceSub, Nat.reduceEqDiff, Nat.le_refl, amN0le, hR.s, hR.r]
  refine mIsWord hR hT1 q1 k (by decide) (by decide) ?_
  simp (disch := omega) only [wX6_rule_0, uX6_rule_0, wX6_rule_1, wX6_rule_4, uX6_rule_4, wX6_rule_5, wX6_rule_6, wX6_rule_8, wX6_rule_10, wX6_rule_12, wX6_rule_14, wX6_rule_16, wX6_rule_19, wX6_rule_22, wX6_rule_23, wX6_rule_26, wX6_rule_27, wX6_rule_30, wX6_rule_31, wX6_rule_32, wX6_rule_33, wX6_rule_35, wX6_rule_38, wX6_rule_39, wX6_rule_42, wX6_rule_43, wX6_rule_46, wX6_rule_47, wX6_rule_48, wX6_rule_49, wX6_rule_51, wX6_rule_54, wX6_rule_55, wX6_rule_56, uX6_rule_56, wX6_rule_57, wX6_rule_59, wX6_rule_61, wX6_rule_63, wX6_rule_65, wX6_rule_67, wX6_rule_70, wX6_rule_73, wX6_rule_74, wX6_rule_75, wX6_rule_78, wX6_rule_79, wX6_rule_80, wX6_rule_82, wX6_rule_84, wX6_rule_86, wX6_rule_88, wX6_rule_91, wX6_rule_94, wX6_rule_95, wX6_rule_96, uX6_rule_96, wX6_rule_97, wX6_rule_99, wX6_rule_101, wX6_rule_103, wX6_rule_105, wX6_rule_107, wX6_rule_110, wX6_rule_113, wX6_rule_114, wX6_rule_115, wX6_rule_118, wX6_rule_119, wX6_rule_120, wX6_rule_122, wX6_rule_124, wX6_rule_126, wX6_rule_128, wX6_rule_131, wX6_rule_134, wX6_rule_135, wX6_rule_138, wX6_rule_140, amSI_1, amSI_2, amSI_3, amSI_s, amU_at, amIsR_ref, amIsR_null, amIsR_rf, amRf_some, amRf_none, amClr_int, amClr_ref, amClr_null, amClr_long, amClr_ra, amClr_rf, amFit_int, amFit_oref, amFit_aref, amFit_onull, amFit_anull, amOptSome, amOptNone, List.cons_append, List.nil_append, true_and, and_true, true_implies, not_true_eq_false, not_false_eq_true, false_implies, and_self, Nat.add_zero, Nat.zero_add, ne_eq, Prod.mk.injEq, amC01_0, amC01_1, amC01_nb, amNb0, amNb1, amTcpI_d, Nat.reduceLeDiff, Nat.reduceAdd, Nat.reduceSub, Nat.reduceEqDiff, Nat.le_refl, amN0le, hR.s, hR.r, amLeI, amLtI, amEqI, amLe0, amGt0, amEq0, amNotPosI, amGe0, amVI, amCl_nI, amAdd, amSub, amMul, q1]
  refine ⟨fun z => s56 (fun y => z (isW0.mp y).1), fun z => ?_⟩
  have z : hd4 t s 6 115 116 101 97 := Classical.not_not.mp z
  have t4 := tt (s + 4) (by omega)
  have t5 := tt (s + 5) (by omega)
  have l4 := hO.le (s + 4)
  have l5 := hO.le (s + 5)
  have t90 := hT.1.1
  simp (disch := omega) only [wX6_rule_0, uX6_rule_0, wX6_rule_1, wX6_rule_4, uX6_rule_4, wX6_rule_5, wX6_rule_6, wX6_rule_8, wX6_rule_10, wX6_rule_12, wX6_rule_14, wX6_rule_16, wX6_rule_19, wX6_rule_22, wX6_rule_23, wX6_rule_26, wX6_rule_27, wX6_rule_30, wX6_rule_31, wX6_rule_32, wX6_rule_33, wX6_rule_35, wX6_rule_38, wX6_rule_39, wX6_rule_42, wX6_rule_43, wX6_rule_46, wX6_rule_47, wX6_rule_48, wX6_rule_49, wX6_rule_51, wX6_rule_54, wX6_rule_55, wX6_rule_56, uX6_rule_56, wX6_rule_57, wX6_rule_59, wX6_rule_61, wX6_rule_63, wX6_rule_65, wX6_rule_67, wX6_rule_70, wX6_rule_73, wX6_rule_74, wX6_rule_75, wX6_rule_78, wX6_rule_79, wX6_rule_80, wX6_rule_82, wX6_rule_84, wX6_rule_86, wX6_rule_88, wX6_rule_91, wX6_rule_94, wX6_rule_95, wX6_rule_96, uX6_rule_96, wX6_rule_97, wX6_rule_99, wX6_rule_101, wX6_rule_103, wX6_rule_105, wX6_rule_107, wX6_rule_110, wX6_rule_113, wX6_rule_114, wX6_rule_115, wX6_rule_118, wX6_rule_119, wX6_rule_120, wX6_rule_122, wX6_rule_124, wX6_rule_126, wX6_rule_128, wX6_rule_131, wX6_rule_134, wX6_rule_135, wX6_rule_138, wX6_rule_140, amSI_1, amSI_2, amSI_3, amSI_s, amU_at, amIsR_ref, amIsR_null, amIsR_rf, amRf_some, amRf_none, amClr_int, amClr_ref, amClr_null, amClr_long, amClr_ra, amClr_rf, amFit_int, amFit_oref, amFit_aref, amFit_onull, amFit_anull, amOptSome, amOptNone, List.cons_append, List.nil_append, true_and, and_true, true_implies, not_true_eq_false, not_false_eq_true, false_implies, and_self, Nat.add_zero, Nat.zero_add, ne_eq, Prod.mk.injEq, amC01_0, amC01_1, amC01_nb, amNb0, amNb1, amTcpI_d, Nat.reduceLeDiff, Nat.reduceAdd, Nat.reduceSub, Nat.reduceEqDiff, Nat.le_refl, amN0le, hR.s, hR.r, amLeI, amLtI, amEqI, amLe0, amGt0, amEq0, amNotPosI, amGe0, amVI, amCl_nI, amAdd, amSub, amMul, t4, t5]
  refine ⟨fun y => s56 (fun x => y (isW0.mp x).2.1), fun y4 => ⟨fun y => s56 (fun x => y (isW0.mp x).2.2), fun y5 => ?_⟩⟩
  rw [ruleW_0 (isW0.mpr ⟨z, y4, y5⟩)] at key
  exact amRet.of (by decide) (by decide) key
theorem mRule {h : amH} {t : List Nat} {p : Nat} {K : Option Value → amH → Prop} (hR : mdAt h) (hT : TxM h.2.1 t) (hp : h.2.1 124 25 = nI p) (pl : p ≤ t.length) (k : ∀ m', m' 124 25 = nI (skip t p) → plFr h.2.1 m' → K (some (.int (optI (ruleW t (skip t p))))) (amSI h m')) : tX6_rule [.ref 124] h K := ⟨t, p, rfl, hR, hT, hp, pl, k⟩
