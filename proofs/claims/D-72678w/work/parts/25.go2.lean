/-! an order, read -/
set_option maxRecDepth 100000
/-- a board beside the reading -/
def bdOff (b : Nat) : Prop := b + 2 ≤ 31 ∨ 37 ≤ b
/-- the words that an order meets, some books missed -/
def wsOf (S : HS) (l : List Nat) (mis : Nat) : List Nat := l.map (fun x => if mis.testBit x then 0 else S.sets.getD x 0)
theorem wsOf_len (S : HS) (l : List Nat) (mis : Nat) : (wsOf S l mis).length = l.length := by simp [wsOf]
theorem wsOf_at (S : HS) (l : List Nat) (mis p : Nat) (h : p < l.length) : (wsOf S l mis).getD p 0 = if mis.testBit (l.getD p 0) then 0 else S.sets.getD (l.getD p 0) 0 := map_getD h
theorem rdOf_take {span rule prior : Nat} {ws : List Nat} {p : Nat} (h : p < ws.length) : rdOf span rule prior (ws.take (p + 1)) = rdStep span rule prior (rdOf span rule prior (ws.take p)) (ws.getD p 0) := fold_take h
def setsB (S : HS) : Prop := ∀ x ∈ S.sets, x < 1048576
theorem setsB.at {S : HS} (h : setsB S) (k : Nat) : S.sets.getD k 0 < 1048576 := by
  by_cases q : k < S.sets.length
  · exact h _ (getD_mem q)
  · rw [List.getD_eq_getElem?_getD, List.getElem?_eq_none (by omega)]; decide
def tX0_go : amT := fun as h K => match as with
  | [.ref a, .ref b, .int mi] => ∃ (S : HS) (l : List Nat) (mis : Nat), a = (24 : Nat) ∧ rsAt h ∧ HsIs h.2.1 25 S ∧ hsB S ∧ setsB S ∧ bdAt h b ∧ bdIs h.2.1 b l ∧ bdOff b ∧ (∀ x ∈ l, x < S.ord.length) ∧ mi = nI mis ∧ mis < 128 ∧ ∀ m', RdIs m' (rdOf S.span S.rule S.prior (wsOf S l mis)) → rdFr h.2.1 m' → K none (amSI h m')
  | _ => False
/-! ReadingStages.go(LReadingStages$Shelf;I)V -/
def kX0_go : Nat → Bool := fun pc => pc == 4 || pc == 6 || pc == 51 || pc == 54
def rX0_go : List (Nat × amS) := [(1, 1, 0, 0, (amRecv 0 tX0_forget)), (8, 1, 0, 0, (amRecv 2 tX2_size)), (21, 2, 0, 0, (amRecv 2 tX2_at)), (26, 2, 0, 0, tX0_has), (37, 1, 0, 0, amTget 0 0), (40, 1, 0, 0, amTget 1 0), (45, 2, 0, 0, (amRecv 2 tX2_at)), (51, 3, 0, 0, (amRecv 0 tX0_step))]
def eX0_go (ret : Option Value → amH → Nat → Nat → Prop) (F : amX) : Nat → amX := amWp cX0_go kX0_go (amLk rX0_go) none 0 0 ret F
def sX0_go (ret : Option Value → amH → Nat → Nat → Prop) (F : amX) : Nat → amX := amWs cX0_go kX0_go (amLk rX0_go) none 0 0 ret F
theorem wX0_go_0 {ret F n h} {v0 v1 v2 v3 st} : eX0_go ret F (n + 1) 0 [v0, v1, v2, v3] (st) h 0 0 = (amIsR v0 ∧ eX0_go ret F n 1 [v0, v1, v2, v3] (v0 :: st) h 0 0) := (amWp_dec rfl dX0_go_0 rfl).trans rfl
theorem uX0_go_0 {ret F n h} {v0 v1 v2 v3 st} : sX0_go ret F n 0 [v0, v1, v2, v3] (st) h 0 0 = (amIsR v0 ∧ eX0_go ret F n 1 [v0, v1, v2, v3] (v0 :: st) h 0 0) := (amWs_dec dX0_go_0 rfl).trans rfl
theorem wX0_go_1 {ret F n h} {v0 v1 v2 v3 x0} : eX0_go ret F (n + 1) 1 [v0, v1, v2, v3] (.ref x0 :: []) h 0 0 = (h.1 x0 = (0, 0) ∧ tX0_forget [.ref x0] h (fun v h => eX0_go ret F n 4 [v0, v1, v2, v3] (v.toList ++ ([])) h 0 0)) := (amWp_dec rfl dX0_go_1 rfl).trans (amS4 (Nat.le_of_ble_eq_true rfl) (Nat.le_of_ble_eq_true rfl) (Nat.le_of_ble_eq_true rfl) (Nat.le_of_ble_eq_true rfl))
theorem wX0_go_4 {ret F n ls st h k z} : eX0_go ret F (n + 1) 4 ls st h k z = F 4 ls st h k z := amWp_cut rfl
theorem uX0_go_4 {ret F n h} {v0 v1 v2 v3 st} : sX0_go ret F n 4 [v0, v1, v2, v3] (st) h 0 0 = (eX0_go ret F n 5 [v0, v1, v2, v3] (.int (nI 0) :: st) h 0 0) := (amWs_dec dX0_go_4 rfl).trans rfl
theorem wX0_go_5 {ret F n h} {v0 v1 v2 v3 st x} : eX0_go ret F (n + 1) 5 [v0, v1, v2, v3] (.int x :: st) h 0 0 = (eX0_go ret F n 6 [v0, v1, amClr v2, .int x] (st) h 0 0) := (amWp_dec rfl dX0_go_5 rfl).trans (amTrue (Nat.le_of_ble_eq_true rfl))
theorem wX0_go_6 {ret F n ls st h k z} : eX0_go ret F (n + 1) 6 ls st h k z = F 6 ls st h k z := amWp_cut rfl
theorem uX0_go_6 {ret F n h} {v0 v1 v2 st x} : sX0_go ret F n 6 [v0, v1, v2, .int x] (st) h 0 0 = (eX0_go ret F n 7 [v0, v1, v2, .int x] (.int x :: st) h 0 0) := (amWs_dec dX0_go_6 rfl).trans rfl
theorem wX0_go_7 {ret F n h} {v0 v1 v2 v3 st} : eX0_go ret F (n + 1) 7 [v0, v1, v2, v3] (st) h 0 0 = (amIsR v1 ∧ eX0_go ret F n 8 [v0, v1, v2, v3] (v1 :: st) h 0 0) := (amWp_dec rfl dX0_go_7 rfl).trans rfl
theorem wX0_go_8 {ret F n h} {v0 v1 v2 v3 x0 r0} : eX0_go ret F (n + 1) 8 [v0, v1, v2, v3] (.ref x0 :: r0 :: []) h 0 0 = (h.1 x0 = (0, 2) ∧ tX2_size [.ref x0] h (fun v h => eX0_go ret F n 13 [v0, v1, v2, v3] (v.toList ++ (r0 :: [])) h 0 0)) := (amWp_dec rfl dX0_go_8 rfl).trans (amS4 (Nat.le_of_ble_eq_true rfl) (Nat.le_of_ble_eq_true rfl) (Nat.le_of_ble_eq_true rfl) (Nat.le_of_ble_eq_true rfl))
theorem wX0_go_13 {ret F n h} {v0 v1 v2 v3 st y x} : eX0_go ret F (n + 1) 13 [v0, v1, v2, v3] (.int y :: .int x :: st) h 0 0 = ((y ≤ x → eX0_go ret F n 60 [v0, v1, v2, v3] (st) h 0 0) ∧ (¬ y ≤ x → eX0_go ret F n 16 [v0, v1, v2, v3] (st) h 0 0)) := (amWp_dec rfl dX0_go_13 rfl).trans rfl
theorem wX0_go_16 {ret F n h} {v0 v1 v2 v3 st} : eX0_go ret F (n + 1) 16 [v0, v1, v2, v3] (st) h 0 0 = (amIsR v0 ∧ eX0_go ret F n 17 [v0, v1, v2, v3] (v0 :: st) h 0 0) := (amWp_dec rfl dX0_go_16 rfl).trans rfl
theorem wX0_go_17 {ret F n h} {v0 v1 v2 st x} : eX0_go ret F (n + 1) 17 [v0, v1, v2, .int x] (st) h 0 0 = (eX0_go ret F n 18 [v0, v1, v2, .int x] (.int x :: st) h 0 0) := (amWp_dec rfl dX0_go_17 rfl).trans rfl
theorem wX0_go_18 {ret F n h} {v0 v1 v3 st x} : eX0_go ret F (n + 1) 18 [v0, v1, .int x, v3] (st) h 0 0 = (eX0_go ret F n 19 [v0, v1, .int x, v3] (.int x :: st) h 0 0) := (amWp_dec rfl dX0_go_18 rfl).trans rfl
theorem wX0_go_19 {ret F n h} {v0 v1 v2 v3 st} : eX0_go ret F (n + 1) 19 [v0, v1, v2, v3] (st) h 0 0 = (amIsR v1 ∧ eX0_go ret F n 20 [v0, v1, v2, v3] (v1 :: st) h 0 0) := (amWp_dec rfl dX0_go_19 rfl).trans rfl
theorem wX0_go_20 {ret F n h} {v0 v1 v2 st x} : eX0_go ret F (n + 1) 20 [v0, v1, v2, .int x] (st) h 0 0 = (eX0_go ret F n 21 [v0, v1, v2, .int x] (.int x :: st) h 0 0) := (amWp_dec rfl dX0_go_20 rfl).trans rfl
theorem wX0_go_21 {ret F n h} {v0 v1 v2 v3 x1 x0 r0 r1 r2} : eX0_go ret F (n + 1) 21 [v0, v1, v2, v3] (.int x1 :: .ref x0 :: r0 :: r1 :: r2 :: []) h 0 0 = (h.1 x0 = (0, 2) ∧ tX2_at [.ref x0, .int x1] h (fun v h => eX0_go ret F n 26 [v0, v1, v2, v3] (v.toList ++ (r0 :: r1 :: r2 :: [])) h 0 0)) := (amWp_dec rfl dX0_go_21 rfl).trans (amS4 (Nat.le_of_ble_eq_true rfl) (Nat.le_of_ble_eq_true rfl) (Nat.le_of_ble_eq_true rfl) (Nat.le_of_ble_eq_true rfl))
theorem wX0_go_26 {ret F n h} {v0 v1 v2 v3 x1 x0 r0 r1} : eX0_go ret F (n + 1) 26 [v0, v1, v2, v3] (.int x1 :: .int x0 :: r0 :: r1 :: []) h 0 0 = (tX0_has [.int x0, .int x1] h (fun v h => eX0_go ret F n 29 [v0, v1, v2, v3] (v.toList ++ (r0 :: r1 :: [])) h 0 0)) := (amWp_dec rfl dX0_go_26 rfl).trans (amS4 (Nat.le_of_ble_eq_true rfl) (Nat.le_of_ble_eq_true rfl) (Nat.le_of_ble_eq_true rfl) (Nat.le_of_ble_eq_true rfl))
theorem wX0_go_29 {ret F n h} {v0 v1 v2 v3 st x} : eX0_go ret F (n + 1) 29 [v0, v1, v2, v3] (.int x :: st) h 0 0 = ((x = 0 → eX0_go ret F n 36 [v0, v1, v2, v3] (st) h 0 0) ∧ (¬ x = 0 → eX0_go ret F n 32 [v0, v1, v2, v3] (st) h 0 0)) := (amWp_dec rfl dX0_go_29 rfl).trans rfl
theorem wX0_go_32 {ret F n h} {v0 v1 v2 v3 st} : eX0_go ret F (n + 1) 32 [v0, v1, v2, v3] (st) h 0 0 = (eX0_go ret F n 33 [v0, v1, v2, v3] (.int (nI 0) :: st) h 0 0) := (amWp_dec rfl dX0_go_32 rfl).trans rfl
theorem wX0_go_33 {ret F n h} {v0 v1 v2 v3 st} : eX0_go ret F (n + 1) 33 [v0, v1, v2, v3] (st) h 0 0 = (eX0_go ret F n 51 [v0, v1, v2, v3] (st) h 0 0) := (amWp_dec rfl dX0_go_33 rfl).trans rfl
theorem wX0_go_36 {ret F n h} {v0 v1 v2 v3 st} : eX0_go ret F (n + 1) 36 [v0, v1, v2, v3] (st) h 0 0 = (amIsR v0 ∧ eX0_go ret F n 37 [v0, v1, v2, v3] (v0 :: st) h 0 0) := (amWp_dec rfl dX0_go_36 rfl).trans rfl
theorem wX0_go_37 {ret F n h} {v0 v1 v2 v3 r0 r1 a} : eX0_go ret F (n + 1) 37 [v0, v1, v2, v3] (.ref a :: r0 :: r1 :: []) h 0 0 = (h.1 a = (0, 0) ∧ eX0_go ret F n 40 [v0, v1, v2, v3] (va_rf (h.2.2.2.1 a 0) :: r0 :: r1 :: []) h 0 0) := (amWp_dec rfl dX0_go_37 rfl).trans (amS4 (Nat.le_of_ble_eq_true rfl) (Nat.le_of_ble_eq_true rfl) (Nat.le_of_ble_eq_true rfl) (Nat.le_of_ble_eq_true rfl))
theorem wX0_go_40 {ret F n h} {v0 v1 v2 v3 r0 r1 a} : eX0_go ret F (n + 1) 40 [v0, v1, v2, v3] (.ref a :: r0 :: r1 :: []) h 0 0 = (h.1 a = (0, 1) ∧ eX0_go ret F n 43 [v0, v1, v2, v3] (va_rf (h.2.2.2.1 a 0) :: r0 :: r1 :: []) h 0 0) := (amWp_dec rfl dX0_go_40 rfl).trans (amS4 (Nat.le_of_ble_eq_true rfl) (Nat.le_of_ble_eq_true rfl) (Nat.le_of_ble_eq_true rfl) (Nat.le_of_ble_eq_true rfl))
theorem wX0_go_43 {ret F n h} {v0 v1 v2 v3 st} : eX0_go ret F (n + 1) 43 [v0, v1, v2, v3] (st) h 0 0 = (amIsR v1 ∧ eX0_go ret F n 44 [v0, v1, v2, v3] (v1 :: st) h 0 0) := (amWp_dec rfl dX0_go_43 rfl).trans rfl
theorem wX0_go_44 {ret F n h} {v0 v1 v2 st x} : eX0_go ret F (n + 1) 44 [v0, v1, v2, .int x] (st) h 0 0 = (eX0_go ret F n 45 [v0, v1, v2, .int x] (.int x :: st) h 0 0) := (amWp_dec rfl dX0_go_44 rfl).trans rfl
theorem wX0_go_45 {ret F n h} {v0 v1 v2 v3 x1 x0 r0 r1 r2} : eX0_go ret F (n + 1) 45 [v0, v1, v2, v3] (.int x1 :: .ref x0 :: r0 :: r1 :: r2 :: []) h 0 0 = (h.1 x0 = (0, 2) ∧ tX2_at [.ref x0, .int x1] h (fun v h => eX0_go ret F n 50 [v0, v1, v2, v3] (v.toList ++ (r0 :: r1 :: r2 :: [])) h 0 0)) := (amWp_dec rfl dX0_go_45 rfl).trans (amS4 (Nat.le_of_ble_eq_true rfl) (Nat.le_of_ble_eq_true rfl) (Nat.le_of_ble_eq_true rfl) (Nat.le_of_ble_eq_true rfl))
theorem wX0_go_50 {ret F n h} {v0 v1 v2 v3 st x a} : eX0_go ret F (n + 1) 50 [v0, v1, v2, v3] (.int x :: .ref a :: st) h 0 0 = ((h.1 a).1 = 1 ∧ vp_in x (h.1 a).2 ∧ eX0_go ret F n 51 [v0, v1, v2, v3] (.int (h.2.1 a x.toNatClampNeg) :: st) h 0 0) := (amWp_dec rfl dX0_go_50 rfl).trans rfl
theorem wX0_go_51 {ret F n ls st h k z} : eX0_go ret F (n + 1) 51 ls st h k z = F 51 ls st h k z := amWp_cut rfl
theorem uX0_go_51 {ret F n h} {v0 v1 v2 v3 x2 x1 x0} : sX0_go ret F n 51 [v0, v1, v2, v3] (.int x2 :: .int x1 :: .ref x0 :: []) h 0 0 = (h.1 x0 = (0, 0) ∧ tX0_step [.ref x0, .int x1, .int x2] h (fun v h => eX0_go ret F n 54 [v0, v1, v2, v3] (v.toList ++ ([])) h 0 0)) := (amWs_dec dX0_go_51 rfl).trans (amS4 (Nat.le_of_ble_eq_true rfl) (Nat.le_of_ble_eq_true rfl) (Nat.le_of_ble_eq_true rfl) (Nat.le_of_ble_eq_true rfl))
theorem wX0_go_54 {ret F n ls st h k z} : eX0_go ret F (n + 1) 54 ls st h k z = F 54 ls st h k z := amWp_cut rfl
theorem uX0_go_54 {ret F n h} {v0 v1 v2 st x} : sX0_go ret F n 54 [v0, v1, v2, .int x] (st) h 0 0 = (eX0_go ret F n 57 [v0, v1, amClr v2, .int (x + nI 1)] (st) h 0 0) := (amWs_dec dX0_go_54 rfl).trans rfl
theorem wX0_go_57 {ret F n h} {v0 v1 v2 v3 st} : eX0_go ret F (n + 1) 57 [v0, v1, v2, v3] (st) h 0 0 = (eX0_go ret F n 6 [v0, v1, v2, v3] (st) h 0 0) := (amWp_dec rfl dX0_go_57 rfl).trans rfl
theorem wX0_go_60 {ret F n h} {v0 v1 v2 v3} : eX0_go ret F (n + 1) 60 [v0, v1, v2, v3] ([]) h 0 0 = (ret none h 0 0) := (amWp_dec rfl dX0_go_60 rfl).trans (amTrue rfl)
theorem evX0_go (l : Launch) (G : amG) : ∀ pc S i sz, amLk rX0_go pc = some S → decode cX0_go pc = .ok (i, sz) → amSiteP pc G l yX0_go.cls yX0_go.name yX0_go.desc (amRm 5 0 0) i sz S.1 S.2.1 S.2.2.1 S.2.2.2 := amLk_ok (by
  refine List.forall_mem_cons.mpr ⟨⟨_, _, dX0_go_1, amSite.P (amSiteV (C := RX0) (metX0_forget l G) rfl (by decide) (by decide) (lw_V q427 q429 qs8 q86 q430) ⟨_, rfl, rfl⟩ ⟨rfl, by decide +kernel, by decide +kernel, by decide +kernel⟩)⟩, ?_⟩
  refine List.forall_mem_cons.mpr ⟨⟨_, _, dX0_go_8, amSite.P (amSiteF (C := RX2) (x := ⟨"ReadingStages$Shelf", "size", "()I"⟩) (metX2_size l G) rfl (by decide) (by decide) (lw_app (by intro w hw; simp only [List.mem_cons, List.not_mem_nil, or_false] at hw; rcases hw with e | e | e | e <;> rw [e] <;> first | exact q432 | exact q409 | exact q411 | exact q88) (lw_meth q413)) (List.mem_of_getElem? (i := 0) rfl) ⟨_, rfl, rfl⟩ ⟨by decide +kernel, by decide +kernel, by decide +kernel⟩)⟩, ?_⟩
  refine List.forall_mem_cons.mpr ⟨⟨_, _, dX0_go_21, amSite.P (amSiteF (C := RX2) (x := ⟨"ReadingStages$Shelf", "at", "(I)I"⟩) (metX2_at l G) rfl (by decide) (by decide) (lw_app (by intro w hw; simp only [List.mem_cons, List.not_mem_nil, or_false] at hw; rcases hw with e | e | e | e <;> rw [e] <;> first | exact q434 | exact q418 | exact q420 | exact q88) (lw_meth q422)) (List.mem_of_getElem? (i := 1) rfl) ⟨_, rfl, rfl⟩ ⟨by decide +kernel, by decide +kernel, by decide +kernel⟩)⟩, ?_⟩
  refine List.forall_mem_cons.mpr ⟨⟨_, _, dX0_go_26, amSite.P (amSiteS (metX0_has l G) rfl (by decide) (by decide) (lw_S q435 q436 q86 q437) ⟨by decide +kernel, by decide +kernel, by decide +kernel⟩)⟩, ?_⟩
  refine List.forall_mem_cons.mpr ⟨⟨_, _, dX0_go_37, amSite.P (amSiteGet ⟨_, rfl, by decide, Or.inl q301⟩)⟩, ?_⟩
  refine List.forall_mem_cons.mpr ⟨⟨_, _, dX0_go_40, amSite.P (amSiteGet ⟨_, rfl, by decide, Or.inr ⟨"ReadingStages", List.mem_of_getElem? (i := 2) rfl⟩⟩)⟩, ?_⟩
  refine List.forall_mem_cons.mpr ⟨⟨_, _, dX0_go_45, amSite.P (amSiteF (C := RX2) (x := ⟨"ReadingStages$Shelf", "at", "(I)I"⟩) (metX2_at l G) rfl (by decide) (by decide) (lw_app (by intro w hw; simp only [List.mem_cons, List.not_mem_nil, or_false] at hw; rcases hw with e | e | e | e <;> rw [e] <;> first | exact q434 | exact q418 | exact q420 | exact q88) (lw_meth q422)) (List.mem_of_getElem? (i := 1) rfl) ⟨_, rfl, rfl⟩ ⟨by decide +kernel, by decide +kernel, by decide +kernel⟩)⟩, ?_⟩
  refine List.forall_mem_cons.mpr ⟨⟨_, _, dX0_go_51, amSite.P (amSiteV (C := RX0) (metX0_step l G) rfl (by decide) (by decide) (lw_V q438 q440 qs9 q86 q441) ⟨_, rfl, rfl⟩ ⟨rfl, by decide +kernel, by decide +kernel, by decide +kernel⟩)⟩, ?_⟩
  exact fun _ h => absurd h List.not_mem_nil)
theorem goX0_go {ret F} (hF : amCld cX0_go kX0_go (amLk rX0_go) none 0 0 ret F) (n : Nat) {pc ls st h k z} (q : sX0_go ret F n pc ls st h k z) : F pc ls st h k z := hF.1 n pc ls st h k z q
theorem metX0_go (l : Launch) (G : amG) : amMet l G yX0_go (ws_ yX0_go cX0_go 4 none) 5 0 0 tX0_go := by
  refine amMet_of (cut := kX0_go) (by decide +kernel) (evX0_go l G) ?_
  intro as h K hT
  match as, hT with
  | [.ref a, .ref b, .int mi], ⟨S, l, mis, e, hR, hS, hB, hX, hb, hl, ho, hn, e2, hm, hK⟩ =>
  refine ⟨Nat.le_of_ble_eq_true rfl, fun F hF => ?_⟩
  show F 0 [.ref a, .ref b, .int mi, .retAddr 0] [] h 0 0
  obtain ⟨a, rfl⟩ : ∃ i : Nat, i = a := ⟨_, rfl⟩
  obtain ⟨b, rfl⟩ : ∃ i : Nat, i = b := ⟨_, rfl⟩
  subst e; subst e2
  have b1 := hb.1
  have l7 := hl.1
  have ho : b + 2 ≤ 31 ∨ 37 ≤ b := ho
  have loop : ∀ t p m, p + t = l.length → RdIs m (rdOf S.span S.rule S.prior ((wsOf S l mis).take p)) → rdFr h.2.1 m → F 6 [.ref 24, .ref b, .int (nI mis), .int (nI p)] [] (amSI h m) 0 0 := by
    intro t
    induction t with
    | zero =>
      intro p m e1 i1 i2
      have e : p = l.length := by omega
      subst e
      rw [List.take_of_length_le (by rw [wsOf_len]; exact Nat.le_refl _)] at i1
      have mb : m b = h.2.1 b := i2 b (by omega)
      have ml : m b 1 = nI l.length := by rw [mb]; exact hl.2.2.1
      refine goX0_go hF 30 ?_
      simp (disch := omega) only [wX0_go_0, uX0_go_0, wX0_go_1, wX0_go_4, uX0_go_4, wX0_go_5, wX0_go_6, uX0_go_6, wX0_go_7, wX0_go_8, wX0_go_13, wX0_go_16, wX0_go_17, wX0_go_18, wX0_go_19, wX0_go_20, wX0_go_21, wX0_go_26, wX0_go_29, wX0_go_32, wX0_go_33, wX0_go_36, wX0_go_37, wX0_go_40, wX0_go_43, wX0_go_44, wX0_go_45, wX0_go_50, wX0_go_51, uX0_go_51, wX0_go_54, uX0_go_54, wX0_go_57, wX0_go_60, amSI_1, amSI_2, amSI_3, amSI_s, amU_at, amIsR_ref, amIsR_null, amIsR_rf, amRf_some, amRf_none, amClr_int, amClr_ref, amClr_null, amClr_long, amClr_ra, amClr_rf, amFit_int, amFit_oref, amFit_aref, amFit_onull, amFit_anull, amOptSome, amOptNone, List.cons_append, List.nil_append, true_and, and_true, true_implies, not_true_eq_false, not_false_eq_true, false_implies, and_self, Nat.add_zero, Nat.zero_add, ne_eq, Prod.mk.injEq, amC01_0, amC01_1, amC01_nb, amNb0, amNb1, amTcpI_d, Nat.reduceLeDiff, Nat.reduceAdd, Nat.reduceSub, Nat.reduceEqDiff, Nat.le_refl, amN0le, hR.s, hR.r, amLeI, amLtI, amEqI, amLe0, amGt0, amEq0, amNotPosI, amGe0, amVI, amCl_nI, amAdd, amSub, amMul, tX2_size_d, b1, ml]
      exact amRet.of (by decide) (by decide) (hK m i1 i2)
    | succ t ih =>
      intro p m e1 i1 i2
      have q : (l.length ≤ p) = False := eq_false (by omega)
      have mb : m b = h.2.1 b := i2 b (by omega)
      have ml : m b 1 = nI l.length := by rw [mb]; exact hl.2.2.1
      have mb1 : m (b + 1) = h.2.1 (b + 1) := i2 (b + 1) (by omega)
      have mp : m (b + 1) p = nI (l.getD p 0) := by rw [mb1]; exact hl.2.2.2 p (by omega)
      have hx := hn _ (getD_mem (l := l) (p := p) (by omega))
      have hx7 := hl.2.1 _ (getD_mem (l := l) (p := p) (by omega))
      have ms : m 26 (l.getD p 0) = nI (S.sets.getD (l.getD p 0) 0) := by rw [i2 26 (by omega)]; exact hS.sets _ hx
      have hS' : HsIs m 25 S := hS.kept (fun i h1 h2 => i2 i (by omega))
      have len : (rdOf S.span S.rule S.prior ((wsOf S l mis).take p)).2.length = p := by rw [rdOf_len, List.length_take, wsOf_len]; omega
      have call : ∀ w, w = (wsOf S l mis).getD p 0 → F 51 [.ref 24, .ref b, .int (nI mis), .int (nI p)] [.int (nI w), .int (nI p), .ref 24] (amSI h m) 0 0 := by
        intro w ew
        refine goX0_go hF 30 ?_
        simp (disch := omega) only [wX0_go_0, uX0_go_0, wX0_go_1, wX0_go_4, uX0_go_4, wX0_go_5, wX0_go_6, uX0_go_6, wX0_go_7, wX0_go_8, wX0_go_13, wX0_go_16, wX0_go_17, wX0_go_18, wX0_go_19, wX0_go_20, wX0_go_21, wX0_go_26, wX0_go_29, wX0_go_32, wX0_go_33, wX0_go_36, wX0_go_37, wX0_go_40, wX0_go_43, wX0_go_44, wX0_go_45, wX0_go_50, wX0_go_51, uX0_go_51, wX0_go_54, uX0_go_54, wX0_go_57, wX0_go_60, amSI_1, amSI_2, amSI_3, amSI_s, amU_at, amIsR_ref, amIsR_null, amIsR_rf, amRf_some, amRf_none, amClr_int, amClr_ref, amClr_null, amClr_long, amClr_ra, amClr_rf, amFit_int, amFit_oref, amFit_aref, amFit_onull, amFit_anull, amOptSome, amOptNone, List.cons_append, List.nil_append, true_and, and_true, true_implies, not_true_eq_false, not_false_eq_true, false_implies, and_self, Nat.add_zero, Nat.zero_add, ne_eq, Prod.mk.injEq, amC01_0, amC01_1, amC01_nb, amNb0, amNb1, amTcpI_d, Nat.reduceLeDiff, Nat.reduceAdd, Nat.reduceSub, Nat.reduceEqDiff, Nat.le_refl, amN0le, hR.s, hR.r, amLeI, amLtI, amEqI, amLe0, amGt0, amEq0, amNotPosI, amGe0, amVI, amCl_nI, amAdd, amSub, amMul, tX0_step_d]
        refine ⟨S, _, w, hR, hS', hB, rdOf_ok _ _ _ _, i1, by rw [len]; omega, by rw [len], rfl, ?_, fun m' q1 q2 => ?_⟩
        · rw [ew, wsOf_at _ _ _ _ (by omega)]
          split
          · decide
          · exact hX.at _
        · rw [ew, ← rdOf_take (by rw [wsOf_len]; omega)] at q1
          have := ih (p + 1) m' (by omega) q1 (fun i hi => (q2 i hi).trans (i2 i hi))
          refine goX0_go hF 30 ?_
          simp (disch := omega) only [wX0_go_0, uX0_go_0, wX0_go_1, wX0_go_4, uX0_go_4, wX0_go_5, wX0_go_6, uX0_go_6, wX0_go_7, wX0_go_8, wX0_go_13, wX0_go_16, wX0_go_17, wX0_go_18, wX0_go_19, wX0_go_20, wX0_go_21, wX0_go_26, wX0_go_29, wX0_go_32, wX0_go_33, wX0_go_36, wX0_go_37, wX0_go_40, wX0_go_43, wX0_go_44, wX0_go_45, wX0_go_50, wX0_go_51, uX0_go_51, wX0_go_54, uX0_go_54, wX0_go_57, wX0_go_60, amSI_1, amSI_2, amSI_3, amSI_s, amU_at, amIsR_ref, amIsR_null, amIsR_rf, amRf_some, amRf_none, amClr_int, amClr_ref, amClr_null, amClr_long, amClr_ra, amClr_rf, amFit_int, amFit_oref, amFit_aref, amFit_onull, amFit_anull, amOptSome, amOptNone, List.cons_append, List.nil_append, true_and, and_true, true_implies, not_true_eq_false, not_false_eq_true, false_implies, and_self, Nat.add_zero, Nat.zero_add, ne_eq, Prod.mk.injEq, amC01_0, amC01_1, amC01_nb, amNb0, amNb1, amTcpI_d, Nat.reduceLeDiff, Nat.reduceAdd, Nat.reduceSub, Nat.reduceEqDiff, Nat.le_refl, amN0le, hR.s, hR.r, amLeI, amLtI, amEqI, amLe0, amGt0, amEq0, amNotPosI, amGe0, amVI, amCl_nI, amAdd, amSub, amMul]
          exact this
      refine goX0_go hF 30 ?_
      simp (disch := omega) only [wX0_go_0, uX0_go_0, wX0_go_1, wX0_go_4, uX0_go_4, wX0_go_5, wX0_go_6, uX0_go_6, wX0_go_7, wX0_go_8, wX0_go_13, wX0_go_16, wX0_go_17, wX0_go_18, wX0_go_19, wX0_go_20, wX0_go_21, wX0_go_26, wX0_go_29, wX0_go_32, wX0_go_33, wX0_go_36, wX0_go_37, wX0_go_40, wX0_go_43, wX0_go_44, wX0_go_45, wX0_go_50, wX0_go_51, uX0_go_51, wX0_go_54, uX0_go_54, wX0_go_57, wX0_go_60, amSI_1, amSI_2, amSI_3, amSI_s, amU_at, amIsR_ref, amIsR_null, amIsR_rf, amRf_some, amRf_none, amClr_int, amClr_ref, amClr_null, amClr_long, amClr_ra, amClr_rf, amFit_int, amFit_oref, amFit_aref, amFit_onull, amFit_anull, amOptSome, amOptNone, List.cons_append, List.nil_append, true_and, and_true, true_implies, not_true_eq_false, not_false_eq_true, false_implies, and_self, Nat.add_zero, Nat.zero_add, ne_eq, Prod.mk.injEq, amC01_0, amC01_1, amC01_nb, amNb0, amNb1, amTcpI_d, Nat.reduceLeDiff, Nat.reduceAdd, Nat.reduceSub, Nat.reduceEqDiff, Nat.le_refl, amN0le, hR.s, hR.r, amLeI, amLtI, amEqI, amLe0, amGt0, amEq0, amNotPosI, amGe0, amVI, amCl_nI, amAdd, amSub, amMul, tX2_size_d, tX2_at_d, tX0_has_d, nx_hasI, b1, ml, mp, ms, q, hb, bdAt, hb.2.1, hb.2.2]
      refine ⟨fun r => ?_, fun r => ?_⟩
      · refine call _ ?_
        rw [wsOf_at _ _ _ _ (by omega), if_neg r]
      · refine call _ ?_
        rw [wsOf_at _ _ _ _ (by omega), if_pos (Classical.not_not.mp r)]
  refine goX0_go hF 30 ?_
  simp (disch := omega) only [wX0_go_0, uX0_go_0, wX0_go_1, wX0_go_4, uX0_go_4, wX0_go_5, wX0_go_6, uX0_go_6, wX0_go_7, wX0_go_8, wX0_go_13, wX0_go_16, wX0_go_17, wX0_go_18, wX0_go_19, wX0_go_20, wX0_go_21, wX0_go_26, wX0_go_29, wX0_go_32, wX0_go_33, wX0_go_36, wX0_go_37, wX0_go_40, wX0_go_43, wX0_go_44, wX0_go_45, wX0_go_50, wX0_go_51, uX0_go_51, wX0_go_54, uX0_go_54, wX0_go_57, wX0_go_60, amSI_1, amSI_2, amSI_3, amSI_s, amU_at, amIsR_ref, amIsR_null, amIsR_rf, amRf_some, amRf_none, amClr_int, amClr_ref, amClr_null, amClr_long, amClr_ra, amClr_rf, amFit_int, amFit_oref, amFit_aref, amFit_onull, amFit_anull, amOptSome, amOptNone, List.cons_append, List.nil_append, true_and, and_true, true_implies, not_true_eq_false, not_false_eq_true, false_implies, and_self, Nat.add_zero, Nat.zero_add, ne_eq, Prod.mk.injEq, amC01_0, amC01_1, amC01_nb, amNb0, amNb1, amTcpI_d, Nat.reduceLeDiff, Nat.reduceAdd, Nat.reduceSub, Nat.reduceEqDiff, Nat.le_refl, amN0le, hR.s, hR.r, amLeI, amLtI, amEqI, amLe0, amGt0, amEq0, amNotPosI, amGe0, amVI, amCl_nI, amAdd, amSub, amMul, tX0_forget_d]
  refine ⟨hR, fun m' q1 q2 => ?_⟩
  refine goX0_go hF 30 ?_
  simp (disch := omega) only [wX0_go_0, uX0_go_0, wX0_go_1, wX0_go_4, uX0_go_4, wX0_go_5, wX0_go_6, uX0_go_6, wX0_go_7, wX0_go_8, wX0_go_13, wX0_go_16, wX0_go_17, wX0_go_18, wX0_go_19, wX0_go_20, wX0_go_21, wX0_go_26, wX0_go_29, wX0_go_32, wX0_go_33, wX0_go_36, wX0_go_37, wX0_go_40, wX0_go_43, wX0_go_44, wX0_go_45, wX0_go_50, wX0_go_51, uX0_go_51, wX0_go_54, uX0_go_54, wX0_go_57, wX0_go_60, amSI_1, amSI_2, amSI_3, amSI_s, amU_at, amIsR_ref, amIsR_null, amIsR_rf, amRf_some, amRf_none, amClr_int, amClr_ref, amClr_null, amClr_long, amClr_ra, amClr_rf, amFit_int, amFit_oref, amFit_aref, amFit_onull, amFit_anull, amOptSome, amOptNone, List.cons_append, List.nil_append, true_and, and_true, true_implies, not_true_eq_false, not_false_eq_true, false_implies, and_self, Nat.add_zero, Nat.zero_add, ne_eq, Prod.mk.injEq, amC01_0, amC01_1, amC01_nb, amNb0, amNb1, amTcpI_d, Nat.reduceLeDiff, Nat.reduceAdd, Nat.reduceSub, Nat.reduceEqDiff, Nat.le_refl, amN0le, hR.s, hR.r, amLeI, amLtI, amEqI, amLe0, amGt0, amEq0, amNotPosI, amGe0, amVI, amCl_nI, amAdd, amSub, amMul]
  refine loop l.length 0 m' (by omega) ⟨fun w hw => ⟨q1 w hw, fun z => absurd z (Nat.lt_irrefl 0)⟩, fun p hp => absurd hp (Nat.not_lt_zero p)⟩ (fun i hi => q2 i (by omega))
theorem tX0_go_d {a b : Nat} {mi : Int32} {h : amH} {K : Option Value → amH → Prop} : tX0_go [.ref a, .ref b, .int mi] h K = ∃ (S : HS) (l : List Nat) (mis : Nat), a = (24 : Nat) ∧ rsAt h ∧ HsIs h.2.1 25 S ∧ hsB S ∧ setsB S ∧ bdAt h b ∧ bdIs h.2.1 b l ∧ bdOff b ∧ (∀ x ∈ l, x < S.ord.length) ∧ mi = nI mis ∧ mis < 128 ∧ ∀ m', RdIs m' (rdOf S.span S.rule S.prior (wsOf S l mis)) → rdFr h.2.1 m' → K none (amSI h m') := rfl
