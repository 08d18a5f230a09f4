/-! what is asked of an order -/
set_option maxRecDepth 100000
theorem bdCopy_is {m : Nat → Nat → Int32} {b c : Nat} {l : List Nat} (h : bdIs m c l) (hc : c ≠ b + 1) : bdIs (bdCopy m b c) b l := by
  refine ⟨h.1, h.2.1, ?_, fun i hi => ?_⟩
  · unfold bdCopy
    rw [amU_at]
    exact h.2.2.1
  · have := h.1
    unfold bdCopy
    rw [amU_ne (Nat.succ_ne_self b), up_at, sb_cpy0 (by omega)]
    exact h.2.2.2 i hi
theorem rdOf_pl {span rule prior : Nat} (ws : List Nat) : ∀ q ∈ (rdOf span rule prior ws).2, q.1 < 1048576 ∧ q.2.1 < 1048576 ∧ q.2.2.1 < 1048576 ∧ q.2.2.2 < 1048576 := by
  have gen : ∀ (ws : List Nat) (D : RD), (∀ q ∈ D.2, q.1 < 1048576 ∧ q.2.1 < 1048576 ∧ q.2.2.1 < 1048576 ∧ q.2.2.2 < 1048576) → ∀ q ∈ (ws.foldl (rdStep span rule prior) D).2, q.1 < 1048576 ∧ q.2.1 < 1048576 ∧ q.2.2.1 < 1048576 ∧ q.2.2.2 < 1048576 := by
    intro ws
    induction ws with
    | nil => intro D h; exact h
    | cons w t ih =>
      intro D h
      refine ih _ (fun q hq => ?_)
      rcases List.mem_append.mp hq with z | z
      · exact h q z
      · rw [List.mem_singleton.mp z]
        exact ⟨bitsOf_lt _ 20, bitsOf_lt _ 20, bitsOf_lt _ 20, bitsOf_lt _ 20⟩
  exact gen ws rd0 (fun q hq => by simp [rd0] at hq)
theorem pl_at {l : List PL} {p : Nat} (h : p < l.length) : l.getD p PL0 ∈ l := by
  rw [List.getD_eq_getElem?_getD, List.getElem?_eq_getElem h]
  exact List.getElem_mem h
/-- an order that may be read -/
def rdPre (h : amH) (S : HS) (b : Nat) (l : List Nat) : Prop := rsAt h ∧ HsIs h.2.1 25 S ∧ hsB S ∧ setsB S ∧ S.bound < 2147483648 ∧ bdAt h b ∧ bdIs h.2.1 b l ∧ bdOff b ∧ ∀ x ∈ l, x < S.ord.length
/-- what an order shows -/
def HS.rd (S : HS) (l : List Nat) (mis : Nat) : RD := rdOf S.span S.rule S.prior (wsOf S l mis)
def HS.holds (S : HS) (l : List Nat) : Bool := hdL (fun x => S.ahead.getD x 0) l
def HS.peak (S : HS) (l : List Nat) : Nat := peakL (S.rd l 0).2
def HS.loss (S : HS) (l : List Nat) : Nat := lossL (S.rd l 0).2
def HS.fits (S : HS) (l : List Nat) : Bool := S.holds l && decide (S.peak l ≤ S.bound)
theorem HS.rd_len (S : HS) (l : List Nat) (mis : Nat) : (S.rd l mis).2.length = l.length := by rw [HS.rd, rdOf_len, wsOf_len]
theorem HS.peak_le (S : HS) (l : List Nat) : S.peak l ≤ 20 := _root_.Jvm.Pilot.CReadingStagesLaw_law_r6708_b58507.peak_le _ 0 (by decide)
theorem HS.loss_le (S : HS) (l : List Nat) (h : l.length ≤ 7) : S.loss l ≤ 140 := by
  have := _root_.Jvm.Pilot.CReadingStagesLaw_law_r6708_b58507.loss_le (S.rd l 0).2 0
  rw [HS.rd_len] at this
  unfold HS.loss lossL
  omega
/-- the places of a reading, as peak and loss want them -/
theorem RdIs.pk {m : Nat → Nat → Int32} {S : HS} {l : List Nat} {mis : Nat} (h : RdIs m (S.rd l mis)) : ∀ p : Nat, p < (S.rd l mis).2.length → m 33 p = nI ((S.rd l mis).2.getD p PL0).1 ∧ ((S.rd l mis).2.getD p PL0).1 < 1048576 := fun p hp => ⟨(h.2 p hp).1, (rdOf_pl _ _ (pl_at hp)).1⟩
theorem RdIs.ls {m : Nat → Nat → Int32} {S : HS} {l : List Nat} {mis : Nat} (h : RdIs m (S.rd l mis)) : ∀ p : Nat, p < (S.rd l mis).2.length → m 35 p = nI ((S.rd l mis).2.getD p PL0).2.2.1 ∧ ((S.rd l mis).2.getD p PL0).2.2.1 < 1048576 := fun p hp => ⟨(h.2 p hp).2.2.1, (rdOf_pl _ _ (pl_at hp)).2.2.1⟩
theorem HsIs.hold {m : Nat → Nat → Int32} {S : HS} {l : List Nat} (h : HsIs m 25 S) (hl : ∀ x ∈ l, x < S.ord.length) : ∀ x ∈ l, m 27 x = nI (S.ahead.getD x 0) ∧ S.ahead.getD x 0 < 128 := fun x hx => ⟨h.ahead x (hl x hx), h.al (hl x hx)⟩
def tX0_doesFit : amT := fun as h K => match as with
  | [.ref a, .ref b] => ∃ (S : HS) (l : List Nat), a = (24 : Nat) ∧ rdPre h S b l ∧ ∀ m', rdFr h.2.1 m' → K (some (.int (amC01 (S.fits l = true)))) (amSI h m')
  | _ => False
/-! ReadingStages.doesFit(LReadingStages$Shelf;)Z -/
def kX0_doesFit : Nat → Bool := fun pc => pc == 24
def rX0_doesFit : List (Nat × amS) := [(2, 1, 0, 0, amTget 0 0), (5, 1, 0, 0, amTget 1 1), (8, 2, 0, 0, (amRecv 2 tX7_holds)), (21, 3, 0, 0, (amRecv 0 tX0_go)), (26, 1, 0, 0, (amRecv 2 tX2_size)), (31, 2, 0, 0, (amRecv 0 tX0_peak)), (35, 1, 0, 0, amTget 0 0), (38, 1, 0, 0, amTget 1 5)]
def eX0_doesFit (ret : Option Value → amH → Nat → Nat → Prop) (F : amX) : Nat → amX := amWp cX0_doesFit kX0_doesFit (amLk rX0_doesFit) (some .boolean) 0 0 ret F
def sX0_doesFit (ret : Option Value → amH → Nat → Nat → Prop) (F : amX) : Nat → amX := amWs cX0_doesFit kX0_doesFit (amLk rX0_doesFit) (some .boolean) 0 0 ret F
theorem wX0_doesFit_0 {ret F n h} {v0 v1 st} : eX0_doesFit ret F (n + 1) 0 [v0, v1] (st) h 0 0 = (amIsR v1 ∧ eX0_doesFit ret F n 1 [v0, v1] (v1 :: st) h 0 0) := (amWp_dec rfl dX0_doesFit_0 rfl).trans rfl
theorem uX0_doesFit_0 {ret F n h} {v0 v1 st} : sX0_doesFit ret F n 0 [v0, v1] (st) h 0 0 = (amIsR v1 ∧ eX0_doesFit ret F n 1 [v0, v1] (v1 :: st) h 0 0) := (amWs_dec dX0_doesFit_0 rfl).trans rfl
theorem wX0_doesFit_1 {ret F n h} {v0 v1 st} : eX0_doesFit ret F (n + 1) 1 [v0, v1] (st) h 0 0 = (amIsR v0 ∧ eX0_doesFit ret F n 2 [v0, v1] (v0 :: st) h 0 0) := (amWp_dec rfl dX0_doesFit_1 rfl).trans rfl
theorem wX0_doesFit_2 {ret F n h} {v0 v1 r0 a} : eX0_doesFit ret F (n + 1) 2 [v0, v1] (.ref a :: r0 :: []) h 0 0 = (h.1 a = (0, 0) ∧ eX0_doesFit ret F n 5 [v0, v1] (va_rf (h.2.2.2.1 a 0) :: r0 :: []) h 0 0) := (amWp_dec rfl dX0_doesFit_2 rfl).trans (amS4 (Nat.le_of_ble_eq_true rfl) (Nat.le_of_ble_eq_true rfl) (Nat.le_of_ble_eq_true rfl) (Nat.le_of_ble_eq_true rfl))
theorem wX0_doesFit_5 {ret F n h} {v0 v1 r0 a} : eX0_doesFit ret F (n + 1) 5 [v0, v1] (.ref a :: r0 :: []) h 0 0 = (h.1 a = (0, 1) ∧ eX0_doesFit ret F n 8 [v0, v1] (va_rf (h.2.2.2.1 a 1) :: r0 :: []) h 0 0) := (amWp_dec rfl dX0_doesFit_5 rfl).trans (amS4 (Nat.le_of_ble_eq_true rfl) (Nat.le_of_ble_eq_true rfl) (Nat.le_of_ble_eq_true rfl) (Nat.le_of_ble_eq_true rfl))
theorem wX0_doesFit_8 {ret F n h} {v0 v1 x1 x0} : eX0_doesFit ret F (n + 1) 8 [v0, v1] (.ref x1 :: .ref x0 :: []) h 0 0 = (h.1 x0 = (0, 2) ∧ tX7_holds [.ref x0, .ref x1] h (fun v h => eX0_doesFit ret F n 13 [v0, v1] (v.toList ++ ([])) h 0 0)) := (amWp_dec rfl dX0_doesFit_8 rfl).trans (amS4 (Nat.le_of_ble_eq_true rfl) (Nat.le_of_ble_eq_true rfl) (Nat.le_of_ble_eq_true rfl) (Nat.le_of_ble_eq_true rfl))
theorem wX0_doesFit_13 {ret F n h} {v0 v1 st x} : eX0_doesFit ret F (n + 1) 13 [v0, v1] (.int x :: st) h 0 0 = ((¬ x = 0 → eX0_doesFit ret F n 18 [v0, v1] (st) h 0 0) ∧ (x = 0 → eX0_doesFit ret F n 16 [v0, v1] (st) h 0 0)) := (amWp_dec rfl dX0_doesFit_13 rfl).trans rfl
theorem wX0_doesFit_16 {ret F n h} {v0 v1 st} : eX0_doesFit ret F (n + 1) 16 [v0, v1] (st) h 0 0 = (eX0_doesFit ret F n 17 [v0, v1] (.int (nI 0) :: st) h 0 0) := (amWp_dec rfl dX0_doesFit_16 rfl).trans rfl
theorem wX0_doesFit_17 {ret F n h} {v0 v1 x} : eX0_doesFit ret F (n + 1) 17 [v0, v1] ([.int x]) h 0 0 = (narrow .boolean (.int x) = .int x ∧ ret (some (.int x)) h 0 0) := (amWp_dec rfl dX0_doesFit_17 rfl).trans (amRetTy)
theorem wX0_doesFit_18 {ret F n h} {v0 v1 st} : eX0_doesFit ret F (n + 1) 18 [v0, v1] (st) h 0 0 = (amIsR v0 ∧ eX0_doesFit ret F n 19 [v0, v1] (v0 :: st) h 0 0) := (amWp_dec rfl dX0_doesFit_18 rfl).trans rfl
theorem wX0_doesFit_19 {ret F n h} {v0 v1 st} : eX0_doesFit ret F (n + 1) 19 [v0, v1] (st) h 0 0 = (amIsR v1 ∧ eX0_doesFit ret F n 20 [v0, v1] (v1 :: st) h 0 0) := (amWp_dec rfl dX0_doesFit_19 rfl).trans rfl
theorem wX0_doesFit_20 {ret F n h} {v0 v1 st} : eX0_doesFit ret F (n + 1) 20 [v0, v1] (st) h 0 0 = (eX0_doesFit ret F n 21 [v0, v1] (.int (nI 0) :: st) h 0 0) := (amWp_dec rfl dX0_doesFit_20 rfl).trans rfl
theorem wX0_doesFit_21 {ret F n h} {v0 v1 x2 x1 x0} : eX0_doesFit ret F (n + 1) 21 [v0, v1] (.int x2 :: .ref x1 :: .ref x0 :: []) h 0 0 = (h.1 x0 = (0, 0) ∧ tX0_go [.ref x0, .ref x1, .int x2] h (fun v h => eX0_doesFit ret F n 24 [v0, v1] (v.toList ++ ([])) h 0 0)) := (amWp_dec rfl dX0_doesFit_21 rfl).trans (amS4 (Nat.le_of_ble_eq_true rfl) (Nat.le_of_ble_eq_true rfl) (Nat.le_of_ble_eq_true rfl) (Nat.le_of_ble_eq_true rfl))
theorem wX0_doesFit_24 {ret F n ls st h k z} : eX0_doesFit ret F (n + 1) 24 ls st h k z = F 24 ls st h k z := amWp_cut rfl
theorem uX0_doesFit_24 {ret F n h} {v0 v1 st} : sX0_doesFit ret F n 24 [v0, v1] (st) h 0 0 = (amIsR v0 ∧ eX0_doesFit ret F n 25 [v0, v1] (v0 :: st) h 0 0) := (amWs_dec dX0_doesFit_24 rfl).trans rfl
theorem wX0_doesFit_25 {ret F n h} {v0 v1 st} : eX0_doesFit ret F (n + 1) 25 [v0, v1] (st) h 0 0 = (amIsR v1 ∧ eX0_doesFit ret F n 26 [v0, v1] (v1 :: st) h 0 0) := (amWp_dec rfl dX0_doesFit_25 rfl).trans rfl
theorem wX0_doesFit_26 {ret F n h} {v0 v1 x0 r0} : eX0_doesFit ret F (n + 1) 26 [v0, v1] (.ref x0 :: r0 :: []) h 0 0 = (h.1 x0 = (0, 2) ∧ tX2_size [.ref x0] h (fun v h => eX0_doesFit ret F n 31 [v0, v1] (v.toList ++ (r0 :: [])) h 0 0)) := (amWp_dec rfl dX0_doesFit_26 rfl).trans (amS4 (Nat.le_of_ble_eq_true rfl) (Nat.le_of_ble_eq_true rfl) (Nat.le_of_ble_eq_true rfl) (Nat.le_of_ble_eq_true rfl))
theorem wX0_doesFit_31 {ret F n h} {v0 v1 x1 x0} : eX0_doesFit ret F (n + 1) 31 [v0, v1] (.int x1 :: .ref x0 :: []) h 0 0 = (h.1 x0 = (0, 0) ∧ tX0_peak [.ref x0, .int x1] h (fun v h => eX0_doesFit ret F n 34 [v0, v1] (v.toList ++ ([])) h 0 0)) := (amWp_dec rfl dX0_doesFit_31 rfl).trans (amS4 (Nat.le_of_ble_eq_true rfl) (Nat.le_of_ble_eq_true rfl) (Nat.le_of_ble_eq_true rfl) (Nat.le_of_ble_eq_true rfl))
theorem wX0_doesFit_34 {ret F n h} {v0 v1 st} : eX0_doesFit ret F (n + 1) 34 [v0, v1] (st) h 0 0 = (amIsR v0 ∧ eX0_doesFit ret F n 35 [v0, v1] (v0 :: st) h 0 0) := (amWp_dec rfl dX0_doesFit_34 rfl).trans rfl
theorem wX0_doesFit_35 {ret F n h} {v0 v1 r0 a} : eX0_doesFit ret F (n + 1) 35 [v0, v1] (.ref a :: r0 :: []) h 0 0 = (h.1 a = (0, 0) ∧ eX0_doesFit ret F n 38 [v0, v1] (va_rf (h.2.2.2.1 a 0) :: r0 :: []) h 0 0) := (amWp_dec rfl dX0_doesFit_35 rfl).trans (amS4 (Nat.le_of_ble_eq_true rfl) (Nat.le_of_ble_eq_true rfl) (Nat.le_of_ble_eq_true rfl) (Nat.le_of_ble_eq_true rfl))
theorem wX0_doesFit_38 {ret F n h} {v0 v1 r0 a} : eX0_doesFit ret F (n + 1) 38 [v0, v1] (.ref a :: r0 :: []) h 0 0 = (h.1 a = (0, 1) ∧ eX0_doesFit ret F n 41 [v0, v1] (.int (h.2.1 a 5) :: r0 :: []) h 0 0) := (amWp_dec rfl dX0_doesFit_38 rfl).trans (amS4 (Nat.le_of_ble_eq_true rfl) (Nat.le_of_ble_eq_true rfl) (Nat.le_of_ble_eq_true rfl) (Nat.le_of_ble_eq_true rfl))
theorem wX0_doesFit_41 {ret F n h} {v0 v1 st y x} : eX0_doesFit ret F (n + 1) 41 [v0, v1] (.int y :: .int x :: st) h 0 0 = ((y < x → eX0_doesFit ret F n 48 [v0, v1] (st) h 0 0) ∧ (¬ y < x → eX0_doesFit ret F n 44 [v0, v1] (st) h 0 0)) := (amWp_dec rfl dX0_doesFit_41 rfl).trans rfl
theorem wX0_doesFit_44 {ret F n h} {v0 v1 st} : eX0_doesFit ret F (n + 1) 44 [v0, v1] (st) h 0 0 = (eX0_doesFit ret F n 45 [v0, v1] (.int (nI 1) :: st) h 0 0) := (amWp_dec rfl dX0_doesFit_44 rfl).trans rfl
theorem wX0_doesFit_45 {ret F n h} {v0 v1 st} : eX0_doesFit ret F (n + 1) 45 [v0, v1] (st) h 0 0 = (eX0_doesFit ret F n 49 [v0, v1] (st) h 0 0) := (amWp_dec rfl dX0_doesFit_45 rfl).trans rfl
theorem wX0_doesFit_48 {ret F n h} {v0 v1 st} : eX0_doesFit ret F (n + 1) 48 [v0, v1] (st) h 0 0 = (eX0_doesFit ret F n 49 [v0, v1] (.int (nI 0) :: st) h 0 0) := (amWp_dec rfl dX0_doesFit_48 rfl).trans rfl
theorem wX0_doesFit_49 {ret F n h} {v0 v1 x} : eX0_doesFit ret F (n + 1) 49 [v0, v1] ([.int x]) h 0 0 = (narrow .boolean (.int x) = .int x ∧ ret (some (.int x)) h 0 0) := (amWp_dec rfl dX0_doesFit_49 rfl).trans (amRetTy)
theorem evX0_doesFit (l : Launch) (G : amG) : ∀ pc S i sz, amLk rX0_doesFit pc = some S → decode cX0_doesFit pc = .ok (i, sz) → amSiteP pc G l yX0_doesFit.cls yX0_doesFit.name yX0_doesFit.desc (amRm 6 0 0) i sz S.1 S.2.1 S.2.2.1 S.2.2.2 := amLk_ok (by
  refine List.forall_mem_cons.mpr ⟨⟨_, _, dX0_doesFit_2, amSite.P (amSiteGet ⟨_, rfl, by decide, Or.inl q301⟩)⟩, ?_⟩
  refine List.forall_mem_cons.mpr ⟨⟨_, _, dX0_doesFit_5, amSite.P (amSiteGet ⟨_, rfl, by decide, Or.inr ⟨"ReadingStages", List.mem_of_getElem? (i := 3) rfl⟩⟩)⟩, ?_⟩
  refine List.forall_mem_cons.mpr ⟨⟨_, _, dX0_doesFit_8, amSite.P (amSiteDF (C := RX2) (x := ⟨"ReadingStages$Shelf", "holds", "([B)Z"⟩) (metX7_holds l G) rfl (by decide) (by decide) q404 q99 q402 q397 (List.mem_of_getElem? (i := 14) rfl) (List.mem_of_getElem? (i := 19) rfl) (List.mem_of_getElem? (i := 4) rfl) (List.mem_of_getElem? (i := 17) rfl) (List.mem_of_getElem? (i := 20) rfl) ⟨_, rfl, rfl⟩ ⟨by decide +kernel, by decide +kernel, by decide +kernel⟩)⟩, ?_⟩
  refine List.forall_mem_cons.mpr ⟨⟨_, _, dX0_doesFit_21, amSite.P (amSiteV (C := RX0) (metX0_go l G) rfl (by decide) (by decide) (lw_V q423 q425 qs7 q86 q426) ⟨_, rfl, rfl⟩ ⟨rfl, by decide +kernel, by decide +kernel, by decide +kernel⟩)⟩, ?_⟩
  refine List.forall_mem_cons.mpr ⟨⟨_, _, dX0_doesFit_26, amSite.P (amSiteF (C := RX2) (x := ⟨"ReadingStages$Shelf", "size", "()I"⟩) (metX2_size l G) rfl (by decide) (by decide) (lw_app (by intro w hw; simp only [List.mem_cons, List.not_mem_nil, or_false] at hw; rcases hw with e | e | e | e <;> rw [e] <;> first | exact q432 | exact q409 | exact q411 | exact q88) (lw_meth q413)) (List.mem_of_getElem? (i := 0) rfl) ⟨_, rfl, rfl⟩ ⟨by decide +kernel, by decide +kernel, by decide +kernel⟩)⟩, ?_⟩
  refine List.forall_mem_cons.mpr ⟨⟨_, _, dX0_doesFit_31, amSite.P (amSiteV (C := RX0) (metX0_peak l G) rfl (by decide) (by decide) (lw_V q450 q452 qs11 q86 q453) ⟨_, rfl, rfl⟩ ⟨rfl, by decide +kernel, by decide +kernel, by decide +kernel⟩)⟩, ?_⟩
  refine List.forall_mem_cons.mpr ⟨⟨_, _, dX0_doesFit_35, amSite.P (amSiteGet ⟨_, rfl, by decide, Or.inl q301⟩)⟩, ?_⟩
  refine List.forall_mem_cons.mpr ⟨⟨_, _, dX0_doesFit_38, amSite.P (amSiteGet ⟨_, rfl, by decide, Or.inr ⟨"ReadingStages", List.mem_of_getElem? (i := 7) rfl⟩⟩)⟩, ?_⟩
  exact fun _ h => absurd h List.not_mem_nil)
theorem goX0_doesFit {ret F} (hF : amCld cX0_doesFit kX0_doesFit (amLk rX0_doesFit) (some .boolean) 0 0 ret F) (n : Nat) {pc ls st h k z} (q : sX0_doesFit ret F n pc ls st h k z) : F pc ls st h k z := hF.1 n pc ls st h k z q
theorem metX0_doesFit (l : Launch) (G : amG) : amMet l G yX0_doesFit (ws_ yX0_doesFit cX0_doesFit 2 (some .boolean)) 6 0 0 tX0_doesFit := by
  refine amMet_of (cut := kX0_doesFit) (by decide +kernel) (evX0_doesFit l G) ?_
  intro as h K hT
  match as, hT with
  | [.ref a, .ref b], ⟨S, l, e, ⟨hR, hS, hB, hX, hbo, hb, hl, ho, hn⟩, hK⟩ =>
  refine ⟨Nat.le_of_ble_eq_true rfl, fun F hF => ?_⟩
  show F 0 [.ref a, .ref b] [] h 0 0
  obtain ⟨a, rfl⟩ : ∃ i : Nat, i = a := ⟨_, rfl⟩
  obtain ⟨b, rfl⟩ : ∃ i : Nat, i = b := ⟨_, rfl⟩
  subst e
  have b1 := hb.1
  have l7 := hl.1
  have ho2 : b + 2 ≤ 31 ∨ 37 ≤ b := ho
  have pk := S.peak_le l
  refine goX0_doesFit hF 40 ?_
  simp (disch := omega) only [wX0_doesFit_0, uX0_doesFit_0, wX0_doesFit_1, wX0_doesFit_2, wX0_doesFit_5, wX0_doesFit_8, wX0_doesFit_13, wX0_doesFit_16, wX0_doesFit_17, wX0_doesFit_18, wX0_doesFit_19, wX0_doesFit_20, wX0_doesFit_21, wX0_doesFit_24, uX0_doesFit_24, wX0_doesFit_25, wX0_doesFit_26, wX0_doesFit_31, wX0_doesFit_34, wX0_doesFit_35, wX0_doesFit_38, wX0_doesFit_41, wX0_doesFit_44, wX0_doesFit_45, wX0_doesFit_48, wX0_doesFit_49, amSI_1, amSI_2, amSI_3, amSI_s, amU_at, amIsR_ref, amIsR_null, amIsR_rf, amRf_some, amRf_none, amClr_int, amClr_ref, amClr_null, amClr_long, amClr_ra, amClr_rf, amFit_int, amFit_oref, amFit_aref, amFit_onull, amFit_anull, amOptSome, amOptNone, List.cons_append, List.nil_append, true_and, and_true, true_implies, not_true_eq_false, not_false_eq_true, false_implies, and_self, Nat.add_zero, Nat.zero_add, ne_eq, Prod.mk.injEq, amC01_0, amC01_1, amC01_nb, amNb0, amNb1, amTcpI_d, Nat.reduceLeDiff, Nat.reduceAdd, Nat.reduceSub, Nat.reduceEqDiff, Nat.le_refl, amN0le, hR.s, hR.r, amLeI, amLtI, amEqI, amLe0, amGt0, amEq0, amNotPosI, amGe0, amVI, amCl_nI, amAdd, amSub, amMul, tX7_holds_d, b1]
  refine ⟨l, _, hb, hl, hS.hold hn, fun q => ?_, fun q => ?_⟩
  · rw [tX0_go_d]
    refine ⟨S, l, 0, rfl, hR, hS, hB, hX, hb, hl, ho, hn, rfl, by decide, fun m' q1 q2 => ?_⟩
    have q1 : RdIs m' (S.rd l 0) := q1
    have mb : m' b 1 = nI l.length := by rw [q2 b (by omega)]; exact hl.2.2.1
    have m25 : m' 25 5 = nI S.bound := by rw [q2 25 (by omega)]; exact hS.bound
    have len := S.rd_len l 0
    refine goX0_doesFit hF 40 ?_
    simp (disch := omega) only [wX0_doesFit_0, uX0_doesFit_0, wX0_doesFit_1, wX0_doesFit_2, wX0_doesFit_5, wX0_doesFit_8, wX0_doesFit_13, wX0_doesFit_16, wX0_doesFit_17, wX0_doesFit_18, wX0_doesFit_19, wX0_doesFit_20, wX0_doesFit_21, wX0_doesFit_24, uX0_doesFit_24, wX0_doesFit_25, wX0_doesFit_26, wX0_doesFit_31, wX0_doesFit_34, wX0_doesFit_35, wX0_doesFit_38, wX0_doesFit_41, wX0_doesFit_44, wX0_doesFit_45, wX0_doesFit_48, wX0_doesFit_49, amSI_1, amSI_2, amSI_3, amSI_s, amU_at, amIsR_ref, amIsR_null, amIsR_rf, amRf_some, amRf_none, amClr_int, amClr_ref, amClr_null, amClr_long, amClr_ra, amClr_rf, amFit_int, amFit_oref, amFit_aref, amFit_onull, amFit_anull, amOptSome, amOptNone, List.cons_append, List.nil_append, true_and, and_true, true_implies, not_true_eq_false, not_false_eq_true, false_implies, and_self, Nat.add_zero, Nat.zero_add, ne_eq, Prod.mk.injEq, amC01_0, amC01_1, amC01_nb, amNb0, amNb1, amTcpI_d, Nat.reduceLeDiff, Nat.reduceAdd, Nat.reduceSub, Nat.reduceEqDiff, Nat.le_refl, amN0le, hR.s, hR.r, tX2_size_d, tX0_peak_d, b1, mb, m25]
    refine ⟨(S.rd l 0).2, hR, by rw [len], by omega, q1.pk, ?_⟩
    have e : peakL (S.rd l 0).2 = S.peak l := rfl
    rw [e]
    simp (disch := omega) only [wX0_doesFit_0, uX0_doesFit_0, wX0_doesFit_1, wX0_doesFit_2, wX0_doesFit_5, wX0_doesFit_8, wX0_doesFit_13, wX0_doesFit_16, wX0_doesFit_17, wX0_doesFit_18, wX0_doesFit_19, wX0_doesFit_20, wX0_doesFit_21, wX0_doesFit_24, uX0_doesFit_24, wX0_doesFit_25, wX0_doesFit_26, wX0_doesFit_31, wX0_doesFit_34, wX0_doesFit_35, wX0_doesFit_38, wX0_doesFit_41, wX0_doesFit_44, wX0_doesFit_45, wX0_doesFit_48, wX0_doesFit_49, amSI_1, amSI_2, amSI_3, amSI_s, amU_at, amIsR_ref, amIsR_null, amIsR_rf, amRf_some, amRf_none, amClr_int, amClr_ref, amClr_null, amClr_long, amClr_ra, amClr_rf, amFit_int, amFit_oref, amFit_aref, amFit_onull, amFit_anull, amOptSome, amOptNone, List.cons_append, List.nil_append, true_and, and_true, true_implies, not_true_eq_false, not_false_eq_true, false_implies, and_self, Nat.add_zero, Nat.zero_add, ne_eq, Prod.mk.injEq, amC01_0, amC01_1, amC01_nb, amNb0, amNb1, amTcpI_d, Nat.reduceLeDiff, Nat.reduceAdd, Nat.reduceSub, Nat.reduceEqDiff, Nat.le_refl, amN0le, hR.s, hR.r, amLeI, amLtI, amEqI, amLe0, amGt0, amEq0, amNotPosI, amGe0, amVI, amCl_nI, amAdd, amSub, amMul]
    have hq : S.holds l = true := by simpa [HS.holds] using q
    refine ⟨fun r => ?_, fun r => ?_⟩
    · have := hK m' q2
      rw [amC01_f (by simp [HS.fits]; intro _; omega)] at this
      exact amRet.of (by decide) (by decide) this
    · have := hK m' q2
      rw [amC01_t (by simp [HS.fits, hq]; omega)] at this
      exact amRet.of (by decide) (by decide) this
  · have hq : S.holds l = false := by simpa [HS.holds] using q
    have := hK h.2.1 (fun _ _ => rfl)
    rw [amC01_f (by simp [HS.fits, hq])] at this
    exact amRet.of (by decide) (by decide) this
theorem tX0_doesFit_d {a b : Nat} {h : amH} {K : Option Value → amH → Prop} : tX0_doesFit [.ref a, .ref b] h K = ∃ (S : HS) (l : List Nat), a = (24 : Nat) ∧ rdPre h S b l ∧ ∀ m', rdFr h.2.1 m' → K (some (.int (amC01 (S.fits l = true)))) (amSI h m') := rfl
