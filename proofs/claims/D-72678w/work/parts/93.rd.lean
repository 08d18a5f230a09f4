/-! the system's text reading: letters, figures -/
set_option maxRecDepth 100000
theorem skip_1 {t : List Nat} {p : Nat} (h : t.getD p 0 = 32) : skip t p = skip t (p + 1) := by
  have hp := chr_lt (t := t) (p := p) (by omega)
  unfold skip
  obtain ⟨f, hf⟩ : ∃ f, t.length - p = f + 1 := ⟨t.length - p - 1, by omega⟩
  rw [hf, show t.length - (p + 1) = f by omega, skipF, if_pos h]
/-- what a reading may change -/
def rgFr (h h' : amH) : Prop := h.2.2.2.2 ≤ h'.2.2.2.2 ∧ ∀ i : Nat, i < 24 ∨ (124 ≤ i ∧ i < 143) → amSame h h' i
theorem rgFr.rf (h : amH) : rgFr h h := ⟨Nat.le_refl _, fun _ _ => amSame.rf h _⟩
theorem rgFr.tr {h h2 h3 : amH} (a : rgFr h h2) (b : rgFr h2 h3) : rgFr h h3 := ⟨Nat.le_trans a.1 b.1, fun i q => (a.2 i q).tr (b.2 i q)⟩
theorem rgFr.rs {h h' : amH} (a : rgFr h h') : rsFr h h' := ⟨a.1, fun i h1 h2 => a.2 i (Or.inr ⟨h1, h2⟩)⟩
theorem gFr.rg {h h' : amH} {n0 : Nat} (f : gFr h h' n0) (hn : 143 ≤ n0) : rgFr h h' := ⟨f.1, fun i q => f.2 i (by omega)⟩
/-- the system while it reads: the place, the house read so far -/
def RdW (h : amH) (X : XS) (p : Nat) (S : HS) : Prop := RsW h X ∧ h.2.1 24 18 = nI p ∧ p ≤ X.2.2.2.1.length ∧ HsIs h.2.1 45 S
theorem RsW.lt {h : amH} {X : XS} (w : RsW h X) : LtIs h X.2.2.2.1 := ⟨by rw [w.1.1.s.2.2.2.2.2.2.2.2.2.2.2.2.2.2.2.2.2.2.2.1], by have r := w.1.1.r; simp only [r], by have s := w.1.1.s; simp only [s], w.2.2.2.2.2.2.1⟩
theorem RsW.rg {h : amH} {X : XS} (w : RsW h X) {m : Nat → Nat → Int32} (f : ∀ i : Nat, i ≠ 24 → i ≠ 42 → (i < 45 ∨ 50 ≤ i) → m i = h.2.1 i) (g : ∀ j : Nat, j ≠ 18 → m 24 j = h.2.1 24 j) : RsW (amSI h m) X := by
  obtain ⟨⟨w1, w2, w3, w4⟩, w5, w6, w7, w8, w9, w10, w11⟩ := w
  refine ⟨⟨w1, w2.kept (fun i h1 h2 => f i (by omega) (by omega) (by omega)), w3, w4⟩, w5, w6, w7.mv (g 15 (by decide)) rfl (fun i hi => by unfold pastC at hi; exact f i (by omega) (by omega) (by omega)), w8, ?_, w10.mv (f 43 (by decide) (by decide) (by decide)) (f 44 (by decide) (by decide) (by decide)), w11.mv (fun _ _ => rfl) (Nat.le_refl _) (fun i h1 h2 => ⟨rfl, f i (by omega) (by omega) (by omega), rfl⟩)⟩
  show KpIs m X.2.2.1
  cases hc : X.2.2.1 with
  | none =>
    rw [hc] at w9
    show m 24 23 = nI 0
    rw [g 23 (by decide)]; exact w9
  | some v =>
    obtain ⟨S, U⟩ := v
    rw [hc] at w9
    obtain ⟨q1, q2, q3, q4, q5, q6, q7⟩ := w9
    refine ⟨?_, ?_, q3, q4, ?_, fun k hk => ?_, q7⟩
    · rw [g 23 (by decide)]; exact q1
    · exact q2.kept (fun i h1 h2 => f i (by omega) (by omega) (by omega))
    · rw [g 22 (by decide)]; exact q5
    · exact (q6 k hk).kept (fun i h1 h2 => f i (by omega) (by omega) (by omega))
theorem RdW.si {h : amH} {X : XS} {p p' : Nat} {S S' : HS} (w : RdW h X p S) {m : Nat → Nat → Int32} (f : ∀ i : Nat, i ≠ 24 → i ≠ 42 → (i < 45 ∨ 50 ≤ i) → m i = h.2.1 i) (g : ∀ j : Nat, j ≠ 18 → m 24 j = h.2.1 24 j) (e : m 24 18 = nI p') (hp : p' ≤ X.2.2.2.1.length) (hS : HsIs m 45 S') : rgFr h (amSI h m) ∧ RdW (amSI h m) X p' S' := ⟨⟨Nat.le_refl _, fun i q => ⟨rfl, f i (by omega) (by omega) (by omega), rfl, rfl⟩⟩, w.1.rg f g, e, hp, hS⟩
/-- the place alone -/
theorem RdW.pl {h : amH} {X : XS} {p : Nat} {S : HS} (w : RdW h X p S) (p' : Nat) (hp : p' ≤ X.2.2.2.1.length) : rgFr h (amSI h (amU h.2.1 24 18 (nI p'))) ∧ RdW (amSI h (amU h.2.1 24 18 (nI p'))) X p' S := w.si (fun i a _ _ => by simp (disch := omega) only [amU_at, amU_ne, amU_nj, amU_neR, up_ne, up_at, amSI_2]) (fun j hj => by simp (disch := omega) only [amU_at, amU_ne, amU_nj, amU_neR, up_ne, up_at, amSI_2]) (by simp (disch := omega) only [amU_at, amU_ne, amU_nj, amU_neR, up_ne, up_at, amSI_2]) hp (w.2.2.2.kept (fun i a b => by funext j; simp (disch := omega) only [amU_at, amU_ne, amU_nj, amU_neR, up_ne, up_at, amSI_2]))
theorem RdW.gf {h h' : amH} {X : XS} {p : Nat} {S : HS} (w : RdW h X p S) (f : gFr h h' h.2.2.2.2) : rgFr h h' ∧ RdW h' X p S := by
  have hn := w.1.1.2.2.2
  refine ⟨f.rg hn, (w.1.gfr f).2, ?_, w.2.2.1, w.2.2.2.kept (fun i a b => (f.2 i (by omega)).2.1)⟩
  rw [(f.2 24 (by omega)).2.1]
  exact w.2.1
def ltI (t : List Nat) (p : Nat) : Int32 := if p < t.length then nI (t.getD p 0) else -4
theorem ltI_eq {t : List Nat} {p c : Nat} (ht : tOk t) (hc : 1 ≤ c) (hc2 : c < 1000) : (ltI t p = nI c) = (t.getD p 0 = c) := by
  apply propext
  unfold ltI
  split
  · rw [nI_eq (by have := ht.le p; omega) (by omega)]
  · next z =>
    rw [chr_out (by omega)]
    constructor
    · intro e
      have h1 := congrArg Int32.toInt e
      rw [nI_toInt (by omega)] at h1
      exact absurd h1 (by have : (-4 : Int32).toInt = -4 := by decide
                          rw [this]; omega)
    · intro e
      omega
theorem ltI_fig {t : List Nat} {p l u : Nat} (ht : tOk t) (hl : l < 1000) (hu : u < 1000) : (lN l ≤ (ltI t p - nI 48).toInt64 ∧ (ltI t p - nI 48).toInt64 ≤ lN u) = (48 + l ≤ t.getD p 0 ∧ t.getD p 0 ≤ 48 + u) := by
  unfold ltI
  split
  · exact figIn (by have := ht.le p; omega) hl hu
  · next z =>
    rw [chr_out (by omega)]
    apply propext
    constructor
    · rintro ⟨h1, -⟩
      rw [Int64.le_iff_toInt_le, lN_toInt (by omega)] at h1
      have : (((-4 : Int32) - nI 48).toInt64).toInt = -52 := by decide
      omega
    · intro h; omega
theorem ltI_in {t : List Nat} {p : Nat} (h : ¬ t.getD p 0 = 0) : ltI t p = nI (t.getD p 0) := if_pos (chr_lt h)
theorem ltI_neg {t : List Nat} {p : Nat} (ht : tOk t) : (ltI t p < 0) = (t.getD p 0 = 0) := by
  unfold ltI
  split
  · next z =>
    have h1 := ht.ge z
    have h2 := ht.le p
    rw [show (nI (t.getD p 0) < 0) = False from eq_false (nI_pos (by omega))]
    exact (eq_false (by omega)).symm
  · next z =>
    rw [chr_out (by omega)]
    decide
def tX0_nextLetter : amT := fun as h K => match as with
  | [.ref a] => ∃ (X : XS) (p : Nat) (S : HS), a = (24 : Nat) ∧ RdW h X p S ∧ ∀ h', rgFr h h' → RdW h' X (skip X.2.2.2.1 p) S → K (some (.int (ltI X.2.2.2.1 (skip X.2.2.2.1 p)))) h'
  | _ => False
/-! ReadingStages.nextLetter()I -/
def kX0_nextLetter : Nat → Bool := fun pc => pc == 0
def rX0_nextLetter : List (Nat × amS) := [(1, 1, 0, 0, amTget 0 18), (5, 1, 0, 0, amTget 0 17), (8, 1, 0, 0, (amRecv 4 tX4_length)), (15, 1, 0, 0, amTget 0 17), (19, 1, 0, 0, amTget 0 18), (22, 2, 0, 0, (amRecv 4 tX4_charAt)), (32, 1, 0, 0, amTget 0 18), (37, 2, 0, 0, amTput 0 18), (44, 1, 0, 0, amTget 0 18), (48, 1, 0, 0, amTget 0 17), (51, 1, 0, 0, (amRecv 4 tX4_length)), (58, 1, 0, 0, amTget 0 17), (62, 1, 0, 0, amTget 0 18), (65, 2, 0, 0, (amRecv 4 tX4_charAt))]
def eX0_nextLetter (ret : Option Value → amH → Nat → Nat → Prop) (F : amX) : Nat → amX := amWp cX0_nextLetter kX0_nextLetter (amLk rX0_nextLetter) (some .int) 0 0 ret F
def sX0_nextLetter (ret : Option Value → amH → Nat → Nat → Prop) (F : amX) : Nat → amX := amWs cX0_nextLetter kX0_nextLetter (amLk rX0_nextLetter) (some .int) 0 0 ret F
theorem wX0_nextLetter_0 {ret F n ls st h k z} : eX0_nextLetter ret F (n + 1) 0 ls st h k z = F 0 ls st h k z := amWp_cut rfl
theorem uX0_nextLetter_0 {ret F n h} {v0 st} : sX0_nextLetter ret F n 0 [v0] (st) h 0 0 = (amIsR v0 ∧ eX0_nextLetter ret F n 1 [v0] (v0 :: st) h 0 0) := (amWs_dec dX0_nextLetter_0 rfl).trans rfl
theorem wX0_nextLetter_1 {ret F n h} {v0 a} : eX0_nextLetter ret F (n + 1) 1 [v0] (.ref a :: []) h 0 0 = (h.1 a = (0, 0) ∧ eX0_nextLetter ret F n 4 [v0] (.int (h.2.1 a 18) :: []) h 0 0) := (amWp_dec rfl dX0_nextLetter_1 rfl).trans (amS4 (Nat.le_of_ble_eq_true rfl) (Nat.le_of_ble_eq_true rfl) (Nat.le_of_ble_eq_true rfl) (Nat.le_of_ble_eq_true rfl))
theorem wX0_nextLetter_4 {ret F n h} {v0 st} : eX0_nextLetter ret F (n + 1) 4 [v0] (st) h 0 0 = (amIsR v0 ∧ eX0_nextLetter ret F n 5 [v0] (v0 :: st) h 0 0) := (amWp_dec rfl dX0_nextLetter_4 rfl).trans rfl
theorem wX0_nextLetter_5 {ret F n h} {v0 r0 a} : eX0_nextLetter ret F (n + 1) 5 [v0] (.ref a :: r0 :: []) h 0 0 = (h.1 a = (0, 0) ∧ eX0_nextLetter ret F n 8 [v0] (va_rf (h.2.2.2.1 a 17) :: r0 :: []) h 0 0) := (amWp_dec rfl dX0_nextLetter_5 rfl).trans (amS4 (Nat.le_of_ble_eq_true rfl) (Nat.le_of_ble_eq_true rfl) (Nat.le_of_ble_eq_true rfl) (Nat.le_of_ble_eq_true rfl))
theorem wX0_nextLetter_8 {ret F n h} {v0 x0 r0} : eX0_nextLetter ret F (n + 1) 8 [v0] (.ref x0 :: r0 :: []) h 0 0 = (h.1 x0 = (0, 4) ∧ tX4_length [.ref x0] h (fun v h => eX0_nextLetter ret F n 11 [v0] (v.toList ++ (r0 :: [])) h 0 0)) := (amWp_dec rfl dX0_nextLetter_8 rfl).trans (amS4 (Nat.le_of_ble_eq_true rfl) (Nat.le_of_ble_eq_true rfl) (Nat.le_of_ble_eq_true rfl) (Nat.le_of_ble_eq_true rfl))
theorem wX0_nextLetter_11 {ret F n h} {v0 st y x} : eX0_nextLetter ret F (n + 1) 11 [v0] (.int y :: .int x :: st) h 0 0 = ((y ≤ x → eX0_nextLetter ret F n 43 [v0] (st) h 0 0) ∧ (¬ y ≤ x → eX0_nextLetter ret F n 14 [v0] (st) h 0 0)) := (amWp_dec rfl dX0_nextLetter_11 rfl).trans rfl
theorem wX0_nextLetter_14 {ret F n h} {v0 st} : eX0_nextLetter ret F (n + 1) 14 [v0] (st) h 0 0 = (amIsR v0 ∧ eX0_nextLetter ret F n 15 [v0] (v0 :: st) h 0 0) := (amWp_dec rfl dX0_nextLetter_14 rfl).trans rfl
theorem wX0_nextLetter_15 {ret F n h} {v0 a} : eX0_nextLetter ret F (n + 1) 15 [v0] (.ref a :: []) h 0 0 = (h.1 a = (0, 0) ∧ eX0_nextLetter ret F n 18 [v0] (va_rf (h.2.2.2.1 a 17) :: []) h 0 0) := (amWp_dec rfl dX0_nextLetter_15 rfl).trans (amS4 (Nat.le_of_ble_eq_true rfl) (Nat.le_of_ble_eq_true rfl) (Nat.le_of_ble_eq_true rfl) (Nat.le_of_ble_eq_true rfl))
theorem wX0_nextLetter_18 {ret F n h} {v0 st} : eX0_nextLetter ret F (n + 1) 18 [v0] (st) h 0 0 = (amIsR v0 ∧ eX0_nextLetter ret F n 19 [v0] (v0 :: st) h 0 0) := (amWp_dec rfl dX0_nextLetter_18 rfl).trans rfl
theorem wX0_nextLetter_19 {ret F n h} {v0 r0 a} : eX0_nextLetter ret F (n + 1) 19 [v0] (.ref a :: r0 :: []) h 0 0 = (h.1 a = (0, 0) ∧ eX0_nextLetter ret F n 22 [v0] (.int (h.2.1 a 18) :: r0 :: []) h 0 0) := (amWp_dec rfl dX0_nextLetter_19 rfl).trans (amS4 (Nat.le_of_ble_eq_true rfl) (Nat.le_of_ble_eq_true rfl) (Nat.le_of_ble_eq_true rfl) (Nat.le_of_ble_eq_true rfl))
theorem wX0_nextLetter_22 {ret F n h} {v0 x1 x0} : eX0_nextLetter ret F (n + 1) 22 [v0] (.int x1 :: .ref x0 :: []) h 0 0 = (h.1 x0 = (0, 4) ∧ tX4_charAt [.ref x0, .int x1] h (fun v h => eX0_nextLetter ret F n 25 [v0] (v.toList ++ ([])) h 0 0)) := (amWp_dec rfl dX0_nextLetter_22 rfl).trans (amS4 (Nat.le_of_ble_eq_true rfl) (Nat.le_of_ble_eq_true rfl) (Nat.le_of_ble_eq_true rfl) (Nat.le_of_ble_eq_true rfl))
theorem wX0_nextLetter_25 {ret F n h} {v0 st} : eX0_nextLetter ret F (n + 1) 25 [v0] (st) h 0 0 = (eX0_nextLetter ret F n 27 [v0] (.int (nI 32) :: st) h 0 0) := (amWp_dec rfl dX0_nextLetter_25 rfl).trans rfl
theorem wX0_nextLetter_27 {ret F n h} {v0 st y x} : eX0_nextLetter ret F (n + 1) 27 [v0] (.int y :: .int x :: st) h 0 0 = ((¬ x = y → eX0_nextLetter ret F n 43 [v0] (st) h 0 0) ∧ (x = y → eX0_nextLetter ret F n 30 [v0] (st) h 0 0)) := (amWp_dec rfl dX0_nextLetter_27 rfl).trans rfl
theorem wX0_nextLetter_30 {ret F n h} {v0 st} : eX0_nextLetter ret F (n + 1) 30 [v0] (st) h 0 0 = (amIsR v0 ∧ eX0_nextLetter ret F n 31 [v0] (v0 :: st) h 0 0) := (amWp_dec rfl dX0_nextLetter_30 rfl).trans rfl
theorem wX0_nextLetter_31 {ret F n h} {v0 st b} : eX0_nextLetter ret F (n + 1) 31 [v0] (.ref b :: st) h 0 0 = (eX0_nextLetter ret F n 32 [v0] (.ref b :: .ref b :: st) h 0 0) := (amWp_dec rfl dX0_nextLetter_31 rfl).trans (amTrue rfl)
theorem wX0_nextLetter_32 {ret F n h} {v0 r0 a} : eX0_nextLetter ret F (n + 1) 32 [v0] (.ref a :: r0 :: []) h 0 0 = (h.1 a = (0, 0) ∧ eX0_nextLetter ret F n 35 [v0] (.int (h.2.1 a 18) :: r0 :: []) h 0 0) := (amWp_dec rfl dX0_nextLetter_32 rfl).trans (amS4 (Nat.le_of_ble_eq_true rfl) (Nat.le_of_ble_eq_true rfl) (Nat.le_of_ble_eq_true rfl) (Nat.le_of_ble_eq_true rfl))
theorem wX0_nextLetter_35 {ret F n h} {v0 st} : eX0_nextLetter ret F (n + 1) 35 [v0] (st) h 0 0 = (eX0_nextLetter ret F n 36 [v0] (.int (nI 1) :: st) h 0 0) := (amWp_dec rfl dX0_nextLetter_35 rfl).trans rfl
theorem wX0_nextLetter_36 {ret F n h} {v0 st y x} : eX0_nextLetter ret F (n + 1) 36 [v0] (.int y :: .int x :: st) h 0 0 = (eX0_nextLetter ret F n 37 [v0] (.int (x + y) :: st) h 0 0) := (amWp_dec rfl dX0_nextLetter_36 rfl).trans rfl
theorem wX0_nextLetter_37 {ret F n h} {v0 x a} : eX0_nextLetter ret F (n + 1) 37 [v0] (.int x :: .ref a :: []) h 0 0 = (h.1 a = (0, 0) ∧ amN0 ≤ a ∧ amFit .int (.int x) ∧ eX0_nextLetter ret F n 40 [v0] ([]) (amSI h (amU h.2.1 a 18 x)) 0 0) := (amWp_dec rfl dX0_nextLetter_37 rfl).trans (amS4 (Nat.le_of_ble_eq_true rfl) (Nat.le_of_ble_eq_true rfl) (Nat.le_of_ble_eq_true rfl) (Nat.le_of_ble_eq_true rfl))
theorem wX0_nextLetter_40 {ret F n h} {v0 st} : eX0_nextLetter ret F (n + 1) 40 [v0] (st) h 0 0 = (eX0_nextLetter ret F n 0 [v0] (st) h 0 0) := (amWp_dec rfl dX0_nextLetter_40 rfl).trans rfl
theorem wX0_nextLetter_43 {ret F n h} {v0 st} : eX0_nextLetter ret F (n + 1) 43 [v0] (st) h 0 0 = (amIsR v0 ∧ eX0_nextLetter ret F n 44 [v0] (v0 :: st) h 0 0) := (amWp_dec rfl dX0_nextLetter_43 rfl).trans rfl
theorem wX0_nextLetter_44 {ret F n h} {v0 a} : eX0_nextLetter ret F (n + 1) 44 [v0] (.ref a :: []) h 0 0 = (h.1 a = (0, 0) ∧ eX0_nextLetter ret F n 47 [v0] (.int (h.2.1 a 18) :: []) h 0 0) := (amWp_dec rfl dX0_nextLetter_44 rfl).trans (amS4 (Nat.le_of_ble_eq_true rfl) (Nat.le_of_ble_eq_true rfl) (Nat.le_of_ble_eq_true rfl) (Nat.le_of_ble_eq_true rfl))
theorem wX0_nextLetter_47 {ret F n h} {v0 st} : eX0_nextLetter ret F (n + 1) 47 [v0] (st) h 0 0 = (amIsR v0 ∧ eX0_nextLetter ret F n 48 [v0] (v0 :: st) h 0 0) := (amWp_dec rfl dX0_nextLetter_47 rfl).trans rfl
theorem wX0_nextLetter_48 {ret F n h} {v0 r0 a} : eX0_nextLetter ret F (n + 1) 48 [v0] (.ref a :: r0 :: []) h 0 0 = (h.1 a = (0, 0) ∧ eX0_nextLetter ret F n 51 [v0] (va_rf (h.2.2.2.1 a 17) :: r0 :: []) h 0 0) := (amWp_dec rfl dX0_nextLetter_48 rfl).trans (amS4 (Nat.le_of_ble_eq_true rfl) (Nat.le_of_ble_eq_true rfl) (Nat.le_of_ble_eq_true rfl) (Nat.le_of_ble_eq_true rfl))
theorem wX0_nextLetter_51 {ret F n h} {v0 x0 r0} : eX0_nextLetter ret F (n + 1) 51 [v0] (.ref x0 :: r0 :: []) h 0 0 = (h.1 x0 = (0, 4) ∧ tX4_length [.ref x0] h (fun v h => eX0_nextLetter ret F n 54 [v0] (v.toList ++ (r0 :: [])) h 0 0)) := (amWp_dec rfl dX0_nextLetter_51 rfl).trans (amS4 (Nat.le_of_ble_eq_true rfl) (Nat.le_of_ble_eq_true rfl) (Nat.le_of_ble_eq_true rfl) (Nat.le_of_ble_eq_true rfl))
theorem wX0_nextLetter_54 {ret F n h} {v0 st y x} : eX0_nextLetter ret F (n + 1) 54 [v0] (.int y :: .int x :: st) h 0 0 = ((y ≤ x → eX0_nextLetter ret F n 71 [v0] (st) h 0 0) ∧ (¬ y ≤ x → eX0_nextLetter ret F n 57 [v0] (st) h 0 0)) := (amWp_dec rfl dX0_nextLetter_54 rfl).trans rfl
theorem wX0_nextLetter_57 {ret F n h} {v0 st} : eX0_nextLetter ret F (n + 1) 57 [v0] (st) h 0 0 = (amIsR v0 ∧ eX0_nextLetter ret F n 58 [v0] (v0 :: st) h 0 0) := (amWp_dec rfl dX0_nextLetter_57 rfl).trans rfl
theorem wX0_nextLetter_58 {ret F n h} {v0 a} : eX0_nextLetter ret F (n + 1) 58 [v0] (.ref a :: []) h 0 0 = (h.1 a = (0, 0) ∧ eX0_nextLetter ret F n 61 [v0] (va_rf (h.2.2.2.1 a 17) :: []) h 0 0) := (amWp_dec rfl dX0_nextLetter_58 rfl).trans (amS4 (Nat.le_of_ble_eq_true rfl) (Nat.le_of_ble_eq_true rfl) (Nat.le_of_ble_eq_true rfl) (Nat.le_of_ble_eq_true rfl))
theorem wX0_nextLetter_61 {ret F n h} {v0 st} : eX0_nextLetter ret F (n + 1) 61 [v0] (st) h 0 0 = (amIsR v0 ∧ eX0_nextLetter ret F n 62 [v0] (v0 :: st) h 0 0) := (amWp_dec rfl dX0_nextLetter_61 rfl).trans rfl
theorem wX0_nextLetter_62 {ret F n h} {v0 r0 a} : eX0_nextLetter ret F (n + 1) 62 [v0] (.ref a :: r0 :: []) h 0 0 = (h.1 a = (0, 0) ∧ eX0_nextLetter ret F n 65 [v0] (.int (h.2.1 a 18) :: r0 :: []) h 0 0) := (amWp_dec rfl dX0_nextLetter_62 rfl).trans (amS4 (Nat.le_of_ble_eq_true rfl) (Nat.le_of_ble_eq_true rfl) (Nat.le_of_ble_eq_true rfl) (Nat.le_of_ble_eq_true rfl))
theorem wX0_nextLetter_65 {ret F n h} {v0 x1 x0} : eX0_nextLetter ret F (n + 1) 65 [v0] (.int x1 :: .ref x0 :: []) h 0 0 = (h.1 x0 = (0, 4) ∧ tX4_charAt [.ref x0, .int x1] h (fun v h => eX0_nextLetter ret F n 68 [v0] (v.toList ++ ([])) h 0 0)) := (amWp_dec rfl dX0_nextLetter_65 rfl).trans (amS4 (Nat.le_of_ble_eq_true rfl) (Nat.le_of_ble_eq_true rfl) (Nat.le_of_ble_eq_true rfl) (Nat.le_of_ble_eq_true rfl))
theorem wX0_nextLetter_68 {ret F n h} {v0 st} : eX0_nextLetter ret F (n + 1) 68 [v0] (st) h 0 0 = (eX0_nextLetter ret F n 73 [v0] (st) h 0 0) := (amWp_dec rfl dX0_nextLetter_68 rfl).trans rfl
theorem wX0_nextLetter_71 {ret F n h} {v0 st} : eX0_nextLetter ret F (n + 1) 71 [v0] (st) h 0 0 = (eX0_nextLetter ret F n 73 [v0] (.int (-4) :: st) h 0 0) := (amWp_dec rfl dX0_nextLetter_71 rfl).trans rfl
theorem wX0_nextLetter_73 {ret F n h} {v0 x} : eX0_nextLetter ret F (n + 1) 73 [v0] ([.int x]) h 0 0 = (ret (some (.int x)) h 0 0) := (amWp_dec rfl dX0_nextLetter_73 rfl).trans (amTrue ⟨_, rfl, rfl⟩)
theorem evX0_nextLetter (l : Launch) (G : amG) : ∀ pc S i sz, amLk rX0_nextLetter pc = some S → decode cX0_nextLetter pc = .ok (i, sz) → amSiteP pc G l yX0_nextLetter.cls yX0_nextLetter.name yX0_nextLetter.desc (amRm 2 0 0) i sz S.1 S.2.1 S.2.2.1 S.2.2.2 := amLk_ok (by
  refine List.forall_mem_cons.mpr ⟨⟨_, _, dX0_nextLetter_1, amSite.P (amSiteGet ⟨_, rfl, by decide, Or.inl q319⟩)⟩, ?_⟩
  refine List.forall_mem_cons.mpr ⟨⟨_, _, dX0_nextLetter_5, amSite.P (amSiteGet ⟨_, rfl, by decide, Or.inl q318⟩)⟩, ?_⟩
  refine List.forall_mem_cons.mpr ⟨⟨_, _, dX0_nextLetter_8, amSite.P (amSiteV (C := RX4) (metX4_length l G) rfl (by decide) (by decide) (lw_V q1010 q1011 q1012 q92 q1013) ⟨_, rfl, rfl⟩ ⟨rfl, by decide +kernel, by decide +kernel, by decide +kernel⟩)⟩, ?_⟩
  refine List.forall_mem_cons.mpr ⟨⟨_, _, dX0_nextLetter_15, amSite.P (amSiteGet ⟨_, rfl, by decide, Or.inl q318⟩)⟩, ?_⟩
  refine List.forall_mem_cons.mpr ⟨⟨_, _, dX0_nextLetter_19, amSite.P (amSiteGet ⟨_, rfl, by decide, Or.inl q319⟩)⟩, ?_⟩
  refine List.forall_mem_cons.mpr ⟨⟨_, _, dX0_nextLetter_22, amSite.P (amSiteV (C := RX4) (metX4_charAt l G) rfl (by decide) (by decide) (lw_V q1014 q1015 q1016 q92 q1017) ⟨_, rfl, rfl⟩ ⟨rfl, by decide +kernel, by decide +kernel, by decide +kernel⟩)⟩, ?_⟩
  refine List.forall_mem_cons.mpr ⟨⟨_, _, dX0_nextLetter_32, amSite.P (amSiteGet ⟨_, rfl, by decide, Or.inl q319⟩)⟩, ?_⟩
  refine List.forall_mem_cons.mpr ⟨⟨_, _, dX0_nextLetter_37, amSite.P (amSitePut ⟨_, rfl, by decide, Or.inl q319⟩ (fun q h => by cases h; rfl))⟩, ?_⟩
  refine List.forall_mem_cons.mpr ⟨⟨_, _, dX0_nextLetter_44, amSite.P (amSiteGet ⟨_, rfl, by decide, Or.inl q319⟩)⟩, ?_⟩
  refine List.forall_mem_cons.mpr ⟨⟨_, _, dX0_nextLetter_48, amSite.P (amSiteGet ⟨_, rfl, by decide, Or.inl q318⟩)⟩, ?_⟩
  refine List.forall_mem_cons.mpr ⟨⟨_, _, dX0_nextLetter_51, amSite.P (amSiteV (C := RX4) (metX4_length l G) rfl (by decide) (by decide) (lw_V q1010 q1011 q1012 q92 q1013) ⟨_, rfl, rfl⟩ ⟨rfl, by decide +kernel, by decide +kernel, by decide +kernel⟩)⟩, ?_⟩
  refine List.forall_mem_cons.mpr ⟨⟨_, _, dX0_nextLetter_58, amSite.P (amSiteGet ⟨_, rfl, by decide, Or.inl q318⟩)⟩, ?_⟩
  refine List.forall_mem_cons.mpr ⟨⟨_, _, dX0_nextLetter_62, amSite.P (amSiteGet ⟨_, rfl, by decide, Or.inl q319⟩)⟩, ?_⟩
  refine List.forall_mem_cons.mpr ⟨⟨_, _, dX0_nextLetter_65, amSite.P (amSiteV (C := RX4) (metX4_charAt l G) rfl (by decide) (by decide) (lw_V q1014 q1015 q1016 q92 q1017) ⟨_, rfl, rfl⟩ ⟨rfl, by decide +kernel, by decide +kernel, by decide +kernel⟩)⟩, ?_⟩
  exact fun _ h => absurd h List.not_mem_nil)
theorem goX0_nextLetter {ret F} (hF : amCld cX0_nextLetter kX0_nextLetter (amLk rX0_nextLetter) (some .int) 0 0 ret F) (n : Nat) {pc ls st h k z} (q : sX0_nextLetter ret F n pc ls st h k z) : F pc ls st h k z := hF.1 n pc ls st h k z q
theorem metX0_nextLetter (l : Launch) (G : amG) : amMet l G yX0_nextLetter (ws_ yX0_nextLetter cX0_nextLetter 1 (some .int)) 2 0 0 tX0_nextLetter := by
  refine amMet_of (cut := kX0_nextLetter) (by decide +kernel) (evX0_nextLetter l G) ?_
  intro as h K hT
  match as, hT with
  | [.ref a], ⟨X, p, S, e, w, hK⟩ =>
  refine ⟨Nat.le_of_ble_eq_true rfl, fun F hF => ?_⟩
  show F 0 [.ref a] [] h 0 0
  obtain ⟨a, rfl⟩ : ∃ i : Nat, i = a := ⟨_, rfl⟩
  subst e
  have loop : ∀ f p g, p + f = X.2.2.2.1.length → rgFr h g → RdW g X p S → (∀ h', rgFr h h' → RdW h' X (skip X.2.2.2.1 p) S → K (some (.int (ltI X.2.2.2.1 (skip X.2.2.2.1 p)))) h') → F 0 [.ref 24] [] g 0 0 := by
    intro f
    induction f with
    | zero =>
      intro p g e1 fg w hK
      have e : p = X.2.2.2.1.length := by omega
      subst e
      obtain ⟨w1, w2, w3, w4⟩ := id w
      have hR := w1.1.1
      have L := w1.lt
      have t90 := L.2.2.2.1
      have ln := L.2.2.2.2.1
      rw [skip_no (show ¬ X.2.2.2.1.getD X.2.2.2.1.length 0 = 32 by rw [chr_out (Nat.le_refl _)]; decide)] at hK
      have key := hK g fg w
      rw [show ltI X.2.2.2.1 X.2.2.2.1.length = -4 from if_neg (Nat.lt_irrefl _)] at key
      refine goX0_nextLetter hF 60 ?_
      simp (disch := omega) only [wX0_nextLetter_0, uX0_nextLetter_0, wX0_nextLetter_1, wX0_nextLetter_4, wX0_nextLetter_5, wX0_nextLetter_8, wX0_nextLetter_11, wX0_nextLetter_14, wX0_nextLetter_15, wX0_nextLetter_18, wX0_nextLetter_19, wX0_nextLetter_22, wX0_nextLetter_25, wX0_nextLetter_27, wX0_nextLetter_30, wX0_nextLetter_31, wX0_nextLetter_32, wX0_nextLetter_35, wX0_nextLetter_36, wX0_nextLetter_37, wX0_nextLetter_40, wX0_nextLetter_43, wX0_nextLetter_44, wX0_nextLetter_47, wX0_nextLetter_48, wX0_nextLetter_51, wX0_nextLetter_54, wX0_nextLetter_57, wX0_nextLetter_58, wX0_nextLetter_61, wX0_nextLetter_62, wX0_nextLetter_65, wX0_nextLetter_68, wX0_nextLetter_71, wX0_nextLetter_73, amSI_1, amSI_2, amSI_3, amSI_s, amU_at, amIsR_ref, amIsR_null, amIsR_rf, amRf_some, amRf_none, amClr_int, amClr_ref, amClr_null, amClr_long, amClr_ra, amClr_rf, amFit_int, amFit_oref, amFit_aref, amFit_onull, amFit_anull, amOptSome, amOptNone, List.cons_append, List.nil_append, true_and, and_true, true_implies, not_true_eq_false, not_false_eq_true, false_implies, and_self, Nat.add_zero, Nat.zero_add, ne_eq, Prod.mk.injEq, amC01_0, amC01_1, amC01_nb, amNb0, amNb1, amTcpI_d, Nat.reduceLeDiff, Nat.reduceAdd, Nat.reduceSub, Nat.reduceEqDiff, Nat.le_refl, amN0le, hR.s, hR.r, amLeI, amLtI, amEqI, amLe0, amGt0, amEq0, amNotPosI, amGe0, amVI, amCl_nI, amAdd, amSub, amMul, w2, ln, tX4_length_d]
      exact amRet.of (by decide) (by decide) key
    | succ f ih =>
      intro p g e1 fg w hK
      obtain ⟨w1, w2, w3, w4⟩ := id w
      have hR := w1.1.1
      have L := w1.lt
      have t90 := L.2.2.2.1
      have ln := L.2.2.2.2.1
      have hp : p < X.2.2.2.1.length := by omega
      have c1 : (X.2.2.2.1.length ≤ p) = False := eq_false (by omega)
      have l126 := (L.2.2.2.2.2.2 _ (getD_mem hp)).2
      by_cases c : X.2.2.2.1.getD p 0 = 32
      · have c' : (X.2.2.2.1.getD p 0 = 32) = True := eq_true c
        rw [skip_1 c] at hK
        obtain ⟨f1, w1'⟩ := w.pl (p + 1) (by omega)
        have nx := ih (p + 1) _ (by omega) (fg.tr f1) w1' hK
        refine goX0_nextLetter hF 60 ?_
        simp (disch := omega) only [wX0_nextLetter_0, uX0_nextLetter_0, wX0_nextLetter_1, wX0_nextLetter_4, wX0_nextLetter_5, wX0_nextLetter_8, wX0_nextLetter_11, wX0_nextLetter_14, wX0_nextLetter_15, wX0_nextLetter_18, wX0_nextLetter_19, wX0_nextLetter_22, wX0_nextLetter_25, wX0_nextLetter_27, wX0_nextLetter_30, wX0_nextLetter_31, wX0_nextLetter_32, wX0_nextLetter_35, wX0_nextLetter_36, wX0_nextLetter_37, wX0_nextLetter_40, wX0_nextLetter_43, wX0_nextLetter_44, wX0_nextLetter_47, wX0_nextLetter_48, wX0_nextLetter_51, wX0_nextLetter_54, wX0_nextLetter_57, wX0_nextLetter_58, wX0_nextLetter_61, wX0_nextLetter_62, wX0_nextLetter_65, wX0_nextLetter_68, wX0_nextLetter_71, wX0_nextLetter_73, amSI_1, amSI_2, amSI_3, amSI_s, amU_at, amIsR_ref, amIsR_null, amIsR_rf, amRf_some, amRf_none, amClr_int, amClr_ref, amClr_null, amClr_long, amClr_ra, amClr_rf, amFit_int, amFit_oref, amFit_aref, amFit_onull, amFit_anull, amOptSome, amOptNone, List.cons_append, List.nil_append, true_and, and_true, true_implies, not_true_eq_false, not_false_eq_true, false_implies, and_self, Nat.add_zero, Nat.zero_add, ne_eq, Prod.mk.injEq, amC01_0, amC01_1, amC01_nb, amNb0, amNb1, amTcpI_d, Nat.reduceLeDiff, Nat.reduceAdd, Nat.reduceSub, Nat.reduceEqDiff, Nat.le_refl, amN0le, hR.s, hR.r, amLeI, amLtI, amEqI, amLe0, amGt0, amEq0, amNotPosI, amGe0, amVI, amCl_nI, amAdd, amSub, amMul, w2, ln, tX4_length_d, c1]
        rw [tX4_charAt_d]
        refine ⟨_, p, rfl, L, rfl, hp, ?_⟩
        simp (disch := omega) only [wX0_nextLetter_0, uX0_nextLetter_0, wX0_nextLetter_1, wX0_nextLetter_4, wX0_nextLetter_5, wX0_nextLetter_8, wX0_nextLetter_11, wX0_nextLetter_14, wX0_nextLetter_15, wX0_nextLetter_18, wX0_nextLetter_19, wX0_nextLetter_22, wX0_nextLetter_25, wX0_nextLetter_27, wX0_nextLetter_30, wX0_nextLetter_31, wX0_nextLetter_32, wX0_nextLetter_35, wX0_nextLetter_36, wX0_nextLetter_37, wX0_nextLetter_40, wX0_nextLetter_43, wX0_nextLetter_44, wX0_nextLetter_47, wX0_nextLetter_48, wX0_nextLetter_51, wX0_nextLetter_54, wX0_nextLetter_57, wX0_nextLetter_58, wX0_nextLetter_61, wX0_nextLetter_62, wX0_nextLetter_65, wX0_nextLetter_68, wX0_nextLetter_71, wX0_nextLetter_73, amSI_1, amSI_2, amSI_3, amSI_s, amU_at, amIsR_ref, amIsR_null, amIsR_rf, amRf_some, amRf_none, amClr_int, amClr_ref, amClr_null, amClr_long, amClr_ra, amClr_rf, amFit_int, amFit_oref, amFit_aref, amFit_onull, amFit_anull, amOptSome, amOptNone, List.cons_append, List.nil_append, true_and, and_true, true_implies, not_true_eq_false, not_false_eq_true, false_implies, and_self, Nat.add_zero, Nat.zero_add, ne_eq, Prod.mk.injEq, amC01_0, amC01_1, amC01_nb, amNb0, amNb1, amTcpI_d, Nat.reduceLeDiff, Nat.reduceAdd, Nat.reduceSub, Nat.reduceEqDiff, Nat.le_refl, amN0le, hR.s, hR.r, amLeI, amLtI, amEqI, amLe0, amGt0, amEq0, amNotPosI, amGe0, amVI, amCl_nI, amAdd, amSub, amMul, w2, ln, tX4_length_d, c1, c']
        exact nx
      · have c' : (X.2.2.2.1.getD p 0 = 32) = False := eq_false c
        rw [skip_no c] at hK
        have key := hK g fg w
        rw [show ltI X.2.2.2.1 p = nI (X.2.2.2.1.getD p 0) from if_pos hp] at key
        refine goX0_nextLetter hF 60 ?_
        simp (disch := omega) only [wX0_nextLetter_0, uX0_nextLetter_0, wX0_nextLetter_1, wX0_nextLetter_4, wX0_nextLetter_5, wX0_nextLetter_8, wX0_nextLetter_11, wX0_nextLetter_14, wX0_nextLetter_15, wX0_nextLetter_18, wX0_nextLetter_19, wX0_nextLetter_22, wX0_nextLetter_25, wX0_nextLetter_27, wX0_nextLetter_30, wX0_nextLetter_31, wX0_nextLetter_32, wX0_nextLetter_35, wX0_nextLetter_36, wX0_nextLetter_37, wX0_nextLetter_40, wX0_nextLetter_43, wX0_nextLetter_44, wX0_nextLetter_47, wX0_nextLetter_48, wX0_nextLetter_51, wX0_nextLetter_54, wX0_nextLetter_57, wX0_nextLetter_58, wX0_nextLetter_61, wX0_nextLetter_62, wX0_nextLetter_65, wX0_nextLetter_68, wX0_nextLetter_71, wX0_nextLetter_73, amSI_1, amSI_2, amSI_3, amSI_s, amU_at, amIsR_ref, amIsR_null, amIsR_rf, amRf_some, amRf_none, amClr_int, amClr_ref, amClr_null, amClr_long, amClr_ra, amClr_rf, amFit_int, amFit_oref, amFit_aref, amFit_onull, amFit_anull, amOptSome, amOptNone, List.cons_append, List.nil_append, true_and, and_true, true_implies, not_true_eq_false, not_false_eq_true, false_implies, and_self, Nat.add_zero, Nat.zero_add, ne_eq, Prod.mk.injEq, amC01_0, amC01_1, amC01_nb, amNb0, amNb1, amTcpI_d, Nat.reduceLeDiff, Nat.reduceAdd, Nat.reduceSub, Nat.reduceEqDiff, Nat.le_refl, amN0le, hR.s, hR.r, amLeI, amLtI, amEqI, amLe0, amGt0, amEq0, amNotPosI, amGe0, amVI, amCl_nI, amAdd, amSub, amMul, w2, ln, tX4_length_d, c1]
        rw [tX4_charAt_d]
        refine ⟨_, p, rfl, L, rfl, hp, ?_⟩
        simp (disch := omega) only [wX0_nextLetter_0, uX0_nextLetter_0, wX0_nextLetter_1, wX0_nextLetter_4, wX0_nextLetter_5, wX0_nextLetter_8, wX0_nextLetter_11, wX0_nextLetter_14, wX0_nextLetter_15, wX0_nextLetter_18, wX0_nextLetter_19, wX0_nextLetter_22, wX0_nextLetter_25, wX0_nextLetter_27, wX0_nextLetter_30, wX0_nextLetter_31, wX0_nextLetter_32, wX0_nextLetter_35, wX0_nextLetter_36, wX0_nextLetter_37, wX0_nextLetter_40, wX0_nextLetter_43, wX0_nextLetter_44, wX0_nextLetter_47, wX0_nextLetter_48, wX0_nextLetter_51, wX0_nextLetter_54, wX0_nextLetter_57, wX0_nextLetter_58, wX0_nextLetter_61, wX0_nextLetter_62, wX0_nextLetter_65, wX0_nextLetter_68, wX0_nextLetter_71, wX0_nextLetter_73, amSI_1, amSI_2, amSI_3, amSI_s, amU_at, amIsR_ref, amIsR_null, amIsR_rf, amRf_some, amRf_none, amClr_int, amClr_ref, amClr_null, amClr_long, amClr_ra, amClr_rf, amFit_int, amFit_oref, amFit_aref, amFit_onull, amFit_anull, amOptSome, amOptNone, List.cons_append, List.nil_append, true_and, and_true, true_implies, not_true_eq_false, not_false_eq_true, false_implies, and_self, Nat.add_zero, Nat.zero_add, ne_eq, Prod.mk.injEq, amC01_0, amC01_1, amC01_nb, amNb0, amNb1, amTcpI_d, Nat.reduceLeDiff, Nat.reduceAdd, Nat.reduceSub, Nat.reduceEqDiff, Nat.le_refl, amN0le, hR.s, hR.r, amLeI, amLtI, amEqI, amLe0, amGt0, amEq0, amNotPosI, amGe0, amVI, amCl_nI, amAdd, amSub, amMul, w2, ln, tX4_length_d, c1, c']
        rw [tX4_charAt_d]
        refine ⟨_, p, rfl, L, rfl, hp, ?_⟩
        simp (disch := omega) only [wX0_nextLetter_0, uX0_nextLetter_0, wX0_nextLetter_1, wX0_nextLetter_4, wX0_nextLetter_5, wX0_nextLetter_8, wX0_nextLetter_11, wX0_nextLetter_14, wX0_nextLetter_15, wX0_nextLetter_18, wX0_nextLetter_19, wX0_nextLetter_22, wX0_nextLetter_25, wX0_nextLetter_27, wX0_nextLetter_30, wX0_nextLetter_31, wX0_nextLetter_32, wX0_nextLetter_35, wX0_nextLetter_36, wX0_nextLetter_37, wX0_nextLetter_40, wX0_nextLetter_43, wX0_nextLetter_44, wX0_nextLetter_47, wX0_nextLetter_48, wX0_nextLetter_51, wX0_nextLetter_54, wX0_nextLetter_57, wX0_nextLetter_58, wX0_nextLetter_61, wX0_nextLetter_62, wX0_nextLetter_65, wX0_nextLetter_68, wX0_nextLetter_71, wX0_nextLetter_73, amSI_1, amSI_2, amSI_3, amSI_s, amU_at, amIsR_ref, amIsR_null, amIsR_rf, amRf_some, amRf_none, amClr_int, amClr_ref, amClr_null, amClr_long, amClr_ra, amClr_rf, amFit_int, amFit_oref, amFit_aref, amFit_onull, amFit_anull, amOptSome, amOptNone, List.cons_append, List.nil_append, true_and, and_true, true_implies, not_true_eq_false, not_false_eq_true, false_implies, and_self, Nat.add_zero, Nat.zero_add, ne_eq, Prod.mk.injEq, amC01_0, amC01_1, amC01_nb, amNb0, amNb1, amTcpI_d, Nat.reduceLeDiff, Nat.reduceAdd, Nat.reduceSub, Nat.reduceEqDiff, Nat.le_refl, amN0le, hR.s, hR.r, amLeI, amLtI, amEqI, amLe0, amGt0, amEq0, amNotPosI, amGe0, amVI, amCl_nI, amAdd, amSub, amMul, w2, ln, tX4_length_d, c1, c']
        exact amRet.of (by decide) (by decide) key
  exact loop (X.2.2.2.1.length - p) p h (by have := w.2.2.1; omega) (rgFr.rf h) w hK
theorem tX0_nextLetter_d {a : Nat} {h : amH} {K : Option Value → amH → Prop} : tX0_nextLetter [.ref a] h K = ∃ (X : XS) (p : Nat) (S : HS), a = (24 : Nat) ∧ RdW h X p S ∧ ∀ h', rgFr h h' → RdW h' X (skip X.2.2.2.1 p) S → K (some (.int (ltI X.2.2.2.1 (skip X.2.2.2.1 p)))) h' := rfl
def tX0_faulty : amT := fun as h K => match as with
  | [.ref a] => ∃ (X : XS) (p : Nat) (S : HS), a = (24 : Nat) ∧ RdW h X p S ∧ ∀ h', rgFr h h' → RsW h' X → h'.2.1 42 6 = nI (skip X.2.2.2.1 p) → K (some (.ref 42)) h'
  | _ => False
/-! ReadingStages.faulty()LReadingStages$Fault; -/
def kX0_faulty : Nat → Bool := fun pc => pc == 4
def rX0_faulty : List (Nat × amS) := [(1, 1, 0, 0, (amRecv 0 tX0_nextLetter)), (6, 1, 0, 0, amTget 0 16), (10, 1, 0, 0, amTget 0 18), (13, 2, 0, 0, amTput 3 6), (17, 1, 0, 0, amTget 0 16)]
def eX0_faulty (ret : Option Value → amH → Nat → Nat → Prop) (F : amX) : Nat → amX := amWp cX0_faulty kX0_faulty (amLk rX0_faulty) (some (FieldType.object "ReadingStages$Fault")) 0 0 ret F
def sX0_faulty (ret : Option Value → amH → Nat → Nat → Prop) (F : amX) : Nat → amX := amWs cX0_faulty kX0_faulty (amLk rX0_faulty) (some (FieldType.object "ReadingStages$Fault")) 0 0 ret F
theorem wX0_faulty_0 {ret F n h} {v0 st} : eX0_faulty ret F (n + 1) 0 [v0] (st) h 0 0 = (amIsR v0 ∧ eX0_faulty ret F n 1 [v0] (v0 :: st) h 0 0) := (amWp_dec rfl dX0_faulty_0 rfl).trans rfl
theorem uX0_faulty_0 {ret F n h} {v0 st} : sX0_faulty ret F n 0 [v0] (st) h 0 0 = (amIsR v0 ∧ eX0_faulty ret F n 1 [v0] (v0 :: st) h 0 0) := (amWs_dec dX0_faulty_0 rfl).trans rfl
theorem wX0_faulty_1 {ret F n h} {v0 x0} : eX0_faulty ret F (n + 1) 1 [v0] (.ref x0 :: []) h 0 0 = (h.1 x0 = (0, 0) ∧ tX0_nextLetter [.ref x0] h (fun v h => eX0_faulty ret F n 4 [v0] (v.toList ++ ([])) h 0 0)) := (amWp_dec rfl dX0_faulty_1 rfl).trans (amS4 (Nat.le_of_ble_eq_true rfl) (Nat.le_of_ble_eq_true rfl) (Nat.le_of_ble_eq_true rfl) (Nat.le_of_ble_eq_true rfl))
theorem wX0_faulty_4 {ret F n ls st h k z} : eX0_faulty ret F (n + 1) 4 ls st h k z = F 4 ls st h k z := amWp_cut rfl
theorem uX0_faulty_4 {ret F n h} {v0 st x} : sX0_faulty ret F n 4 [v0] (.int x :: st) h 0 0 = (eX0_faulty ret F n 5 [v0] (st) h 0 0) := (amWs_dec dX0_faulty_4 rfl).trans (amTrue rfl)
theorem wX0_faulty_5 {ret F n h} {v0 st} : eX0_faulty ret F (n + 1) 5 [v0] (st) h 0 0 = (amIsR v0 ∧ eX0_faulty ret F n 6 [v0] (v0 :: st) h 0 0) := (amWp_dec rfl dX0_faulty_5 rfl).trans rfl
theorem wX0_faulty_6 {ret F n h} {v0 a} : eX0_faulty ret F (n + 1) 6 [v0] (.ref a :: []) h 0 0 = (h.1 a = (0, 0) ∧ eX0_faulty ret F n 9 [v0] (va_rf (h.2.2.2.1 a 16) :: []) h 0 0) := (amWp_dec rfl dX0_faulty_6 rfl).trans (amS4 (Nat.le_of_ble_eq_true rfl) (Nat.le_of_ble_eq_true rfl) (Nat.le_of_ble_eq_true rfl) (Nat.le_of_ble_eq_true rfl))
theorem wX0_faulty_9 {ret F n h} {v0 st} : eX0_faulty ret F (n + 1) 9 [v0] (st) h 0 0 = (amIsR v0 ∧ eX0_faulty ret F n 10 [v0] (v0 :: st) h 0 0) := (amWp_dec rfl dX0_faulty_9 rfl).trans rfl
theorem wX0_faulty_10 {ret F n h} {v0 r0 a} : eX0_faulty ret F (n + 1) 10 [v0] (.ref a :: r0 :: []) h 0 0 = (h.1 a = (0, 0) ∧ eX0_faulty ret F n 13 [v0] (.int (h.2.1 a 18) :: r0 :: []) h 0 0) := (amWp_dec rfl dX0_faulty_10 rfl).trans (amS4 (Nat.le_of_ble_eq_true rfl) (Nat.le_of_ble_eq_true rfl) (Nat.le_of_ble_eq_true rfl) (Nat.le_of_ble_eq_true rfl))
theorem wX0_faulty_13 {ret F n h} {v0 x a} : eX0_faulty ret F (n + 1) 13 [v0] (.int x :: .ref a :: []) h 0 0 = (h.1 a = (0, 3) ∧ amN0 ≤ a ∧ amFit .int (.int x) ∧ eX0_faulty ret F n 16 [v0] ([]) (amSI h (amU h.2.1 a 6 x)) 0 0) := (amWp_dec rfl dX0_faulty_13 rfl).trans (amS4 (Nat.le_of_ble_eq_true rfl) (Nat.le_of_ble_eq_true rfl) (Nat.le_of_ble_eq_true rfl) (Nat.le_of_ble_eq_true rfl))
theorem wX0_faulty_16 {ret F n h} {v0 st} : eX0_faulty ret F (n + 1) 16 [v0] (st) h 0 0 = (amIsR v0 ∧ eX0_faulty ret F n 17 [v0] (v0 :: st) h 0 0) := (amWp_dec rfl dX0_faulty_16 rfl).trans rfl
theorem wX0_faulty_17 {ret F n h} {v0 a} : eX0_faulty ret F (n + 1) 17 [v0] (.ref a :: []) h 0 0 = (h.1 a = (0, 0) ∧ eX0_faulty ret F n 20 [v0] (va_rf (h.2.2.2.1 a 16) :: []) h 0 0) := (amWp_dec rfl dX0_faulty_17 rfl).trans (amS4 (Nat.le_of_ble_eq_true rfl) (Nat.le_of_ble_eq_true rfl) (Nat.le_of_ble_eq_true rfl) (Nat.le_of_ble_eq_true rfl))
theorem wX0_faulty_20 {ret F n h} {v0 w} : eX0_faulty ret F (n + 1) 20 [v0] ([w]) h 0 0 = (amIsR w ∧ ret (some w) h 0 0) := (amWp_dec rfl dX0_faulty_20 rfl).trans (amTrue ⟨_, rfl, rfl⟩)
theorem evX0_faulty (l : Launch) (G : amG) : ∀ pc S i sz, amLk rX0_faulty pc = some S → decode cX0_faulty pc = .ok (i, sz) → amSiteP pc G l yX0_faulty.cls yX0_faulty.name yX0_faulty.desc (amRm 3 0 0) i sz S.1 S.2.1 S.2.2.1 S.2.2.2 := amLk_ok (by
  refine List.forall_mem_cons.mpr ⟨⟨_, _, dX0_faulty_1, amSite.P (amSiteV (C := RX0) (metX0_nextLetter l G) rfl (by decide) (by decide) (lw_V q1006 q1008 qs31 q86 q1009) ⟨_, rfl, rfl⟩ ⟨rfl, by decide +kernel, by decide +kernel, by decide +kernel⟩)⟩, ?_⟩
  refine List.forall_mem_cons.mpr ⟨⟨_, _, dX0_faulty_6, amSite.P (amSiteGet ⟨_, rfl, by decide, Or.inl q317⟩)⟩, ?_⟩
  refine List.forall_mem_cons.mpr ⟨⟨_, _, dX0_faulty_10, amSite.P (amSiteGet ⟨_, rfl, by decide, Or.inl q319⟩)⟩, ?_⟩
  refine List.forall_mem_cons.mpr ⟨⟨_, _, dX0_faulty_13, amSite.P (amSitePut ⟨_, rfl, by decide, Or.inr ⟨"ReadingStages", List.mem_of_getElem? (i := 10) rfl⟩⟩ (fun q h => by cases h; rfl))⟩, ?_⟩
  refine List.forall_mem_cons.mpr ⟨⟨_, _, dX0_faulty_17, amSite.P (amSiteGet ⟨_, rfl, by decide, Or.inl q317⟩)⟩, ?_⟩
  exact fun _ h => absurd h List.not_mem_nil)
theorem goX0_faulty {ret F} (hF : amCld cX0_faulty kX0_faulty (amLk rX0_faulty) (some (FieldType.object "ReadingStages$Fault")) 0 0 ret F) (n : Nat) {pc ls st h k z} (q : sX0_faulty ret F n pc ls st h k z) : F pc ls st h k z := hF.1 n pc ls st h k z q
theorem metX0_faulty (l : Launch) (G : amG) : amMet l G yX0_faulty (ws_ yX0_faulty cX0_faulty 1 (some (FieldType.object "ReadingStages$Fault"))) 3 0 0 tX0_faulty := by
  refine amMet_of (cut := kX0_faulty) (by decide +kernel) (evX0_faulty l G) ?_
  intro as h K hT
  match as, hT with
  | [.ref a], ⟨X, p, S, e, w, hK⟩ =>
  refine ⟨Nat.le_of_ble_eq_true rfl, fun F hF => ?_⟩
  show F 0 [.ref a] [] h 0 0
  obtain ⟨a, rfl⟩ : ∃ i : Nat, i = a := ⟨_, rfl⟩
  subst e
  have hR := w.1.1.1
  refine goX0_faulty hF 60 ?_
  simp (disch := omega) only [wX0_faulty_0, uX0_faulty_0, wX0_faulty_1, wX0_faulty_4, uX0_faulty_4, wX0_faulty_5, wX0_faulty_6, wX0_faulty_9, wX0_faulty_10, wX0_faulty_13, wX0_faulty_16, wX0_faulty_17, wX0_faulty_20, amSI_1, amSI_2, amSI_3, amSI_s, amU_at, amIsR_ref, amIsR_null, amIsR_rf, amRf_some, amRf_none, amClr_int, amClr_ref, amClr_null, amClr_long, amClr_ra, amClr_rf, amFit_int, amFit_oref, amFit_aref, amFit_onull, amFit_anull, amOptSome, amOptNone, List.cons_append, List.nil_append, true_and, and_true, true_implies, not_true_eq_false, not_false_eq_true, false_implies, and_self, Nat.add_zero, Nat.zero_add, ne_eq, Prod.mk.injEq, amC01_0, amC01_1, amC01_nb, amNb0, amNb1, amTcpI_d, Nat.reduceLeDiff, Nat.reduceAdd, Nat.reduceSub, Nat.reduceEqDiff, Nat.le_refl, amN0le, hR.s, hR.r]
  rw [tX0_nextLetter_d]
  refine ⟨X, p, S, rfl, w, fun g fg wg => ?_⟩
  have hR := wg.1.1.1
  have w2 := wg.2.1
  have key := hK (amSI g (amU g.2.1 42 6 (nI (skip X.2.2.2.1 p)))) (fg.tr ⟨Nat.le_refl _, fun i q => ⟨rfl, amU_neR (by omega), rfl, rfl⟩⟩) (wg.1.rg (fun i _ a _ => by simp (disch := omega) only [amU_at, amU_ne, amU_nj, amU_neR, up_ne, up_at, amSI_2]) (fun j _ => by simp (disch := omega) only [amU_at, amU_ne, amU_nj, amU_neR, up_ne, up_at, amSI_2])) (by simp (disch := omega) only [amU_at, amU_ne, amU_nj, amU_neR, up_ne, up_at, amSI_2])
  refine goX0_faulty hF 60 ?_
  simp (disch := omega) only [wX0_faulty_0, uX0_faulty_0, wX0_faulty_1, wX0_faulty_4, uX0_faulty_4, wX0_faulty_5, wX0_faulty_6, wX0_faulty_9, wX0_faulty_10, wX0_faulty_13, wX0_faulty_16, wX0_faulty_17, wX0_faulty_20, amSI_1, amSI_2, amSI_3, amSI_s, amU_at, amIsR_ref, amIsR_null, amIsR_rf, amRf_some, amRf_none, amClr_int, amClr_ref, amClr_null, amClr_long, amClr_ra, amClr_rf, amFit_int, amFit_oref, amFit_aref, amFit_onull, amFit_anull, amOptSome, amOptNone, List.cons_append, List.nil_append, true_and, and_true, true_implies, not_true_eq_false, not_false_eq_true, false_implies, and_self, Nat.add_zero, Nat.zero_add, ne_eq, Prod.mk.injEq, amC01_0, amC01_1, amC01_nb, amNb0, amNb1, amTcpI_d, Nat.reduceLeDiff, Nat.reduceAdd, Nat.reduceSub, Nat.reduceEqDiff, Nat.le_refl, amN0le, hR.s, hR.r, w2]
  exact amRet.of (by decide) (by decide) key
theorem tX0_faulty_d {a : Nat} {h : amH} {K : Option Value → amH → Prop} : tX0_faulty [.ref a] h K = ∃ (X : XS) (p : Nat) (S : HS), a = (24 : Nat) ∧ RdW h X p S ∧ ∀ h', rgFr h h' → RsW h' X → h'.2.1 42 6 = nI (skip X.2.2.2.1 p) → K (some (.ref 42)) h' := rfl
def tX0_isSign : amT := fun as h K => match as with
  | [.ref a, .int x] => ∃ (X : XS) (p : Nat) (S : HS) (c : Nat), a = (24 : Nat) ∧ RdW h X p S ∧ x = nI c ∧ 33 ≤ c ∧ c < 128 ∧ (X.2.2.2.1.getD (skip X.2.2.2.1 p) 0 = c → ∀ h', rgFr h h' → RdW h' X (skip X.2.2.2.1 p + 1) S → K (some (.int (nI 1))) h') ∧ (¬ X.2.2.2.1.getD (skip X.2.2.2.1 p) 0 = c → ∀ h', rgFr h h' → RdW h' X (skip X.2.2.2.1 p) S → K (some (.int (nI 0))) h')
  | _ => False
/-! ReadingStages.isSign(I)Z -/
def kX0_isSign : Nat → Bool := fun pc => pc == 4
def rX0_isSign : List (Nat × amS) := [(1, 1, 0, 0, (amRecv 0 tX0_nextLetter)), (12, 1, 0, 0, amTget 0 18), (17, 2, 0, 0, amTput 0 18)]
def eX0_isSign (ret : Option Value → amH → Nat → Nat → Prop) (F : amX) : Nat → amX := amWp cX0_isSign kX0_isSign (amLk rX0_isSign) (some .boolean) 0 0 ret F
def sX0_isSign (ret : Option Value → amH → Nat → Nat → Prop) (F : amX) : Nat → amX := amWs cX0_isSign kX0_isSign (amLk rX0_isSign) (some .boolean) 0 0 ret F
theorem wX0_isSign_0 {ret F n h} {v0 v1 st} : eX0_isSign ret F (n + 1) 0 [v0, v1] (st) h 0 0 = (amIsR v0 ∧ eX0_isSign ret F n 1 [v0, v1] (v0 :: st) h 0 0) := (amWp_dec rfl dX0_isSign_0 rfl).trans rfl
theorem uX0_isSign_0 {ret F n h} {v0 v1 st} : sX0_isSign ret F n 0 [v0, v1] (st) h 0 0 = (amIsR v0 ∧ eX0_isSign ret F n 1 [v0, v1] (v0 :: st) h 0 0) := (amWs_dec dX0_isSign_0 rfl).trans rfl
theorem wX0_isSign_1 {ret F n h} {v0 v1 x0} : eX0_isSign ret F (n + 1) 1 [v0, v1] (.ref x0 :: []) h 0 0 = (h.1 x0 = (0, 0) ∧ tX0_nextLetter [.ref x0] h (fun v h => eX0_isSign ret F n 4 [v0, v1] (v.toList ++ ([])) h 0 0)) := (amWp_dec rfl dX0_isSign_1 rfl).trans (amS4 (Nat.le_of_ble_eq_true rfl) (Nat.le_of_ble_eq_true rfl) (Nat.le_of_ble_eq_true rfl) (Nat.le_of_ble_eq_true rfl))
theorem wX0_isSign_4 {ret F n ls st h k z} : eX0_isSign ret F (n + 1) 4 ls st h k z = F 4 ls st h k z := amWp_cut rfl
theorem uX0_isSign_4 {ret F n h} {v0 st x} : sX0_isSign ret F n 4 [v0, .int x] (st) h 0 0 = (eX0_isSign ret F n 5 [v0, .int x] (.int x :: st) h 0 0) := (amWs_dec dX0_isSign_4 rfl).trans rfl
theorem wX0_isSign_5 {ret F n h} {v0 v1 st y x} : eX0_isSign ret F (n + 1) 5 [v0, v1] (.int y :: .int x :: st) h 0 0 = ((x = y → eX0_isSign ret F n 10 [v0, v1] (st) h 0 0) ∧ (¬ x = y → eX0_isSign ret F n 8 [v0, v1] (st) h 0 0)) := (amWp_dec rfl dX0_isSign_5 rfl).trans rfl
theorem wX0_isSign_8 {ret F n h} {v0 v1 st} : eX0_isSign ret F (n + 1) 8 [v0, v1] (st) h 0 0 = (eX0_isSign ret F n 9 [v0, v1] (.int (nI 0) :: st) h 0 0) := (amWp_dec rfl dX0_isSign_8 rfl).trans rfl
theorem wX0_isSign_9 {ret F n h} {v0 v1 x} : eX0_isSign ret F (n + 1) 9 [v0, v1] ([.int x]) h 0 0 = (narrow .boolean (.int x) = .int x ∧ ret (some (.int x)) h 0 0) := (amWp_dec rfl dX0_isSign_9 rfl).trans (amRetTy)
theorem wX0_isSign_10 {ret F n h} {v0 v1 st} : eX0_isSign ret F (n + 1) 10 [v0, v1] (st) h 0 0 = (amIsR v0 ∧ eX0_isSign ret F n 11 [v0, v1] (v0 :: st) h 0 0) := (amWp_dec rfl dX0_isSign_10 rfl).trans rfl
theorem wX0_isSign_11 {ret F n h} {v0 v1 st b} : eX0_isSign ret F (n + 1) 11 [v0, v1] (.ref b :: st) h 0 0 = (eX0_isSign ret F n 12 [v0, v1] (.ref b :: .ref b :: st) h 0 0) := (amWp_dec rfl dX0_isSign_11 rfl).trans (amTrue rfl)
theorem wX0_isSign_12 {ret F n h} {v0 v1 r0 a} : eX0_isSign ret F (n + 1) 12 [v0, v1] (.ref a :: r0 :: []) h 0 0 = (h.1 a = (0, 0) ∧ eX0_isSign ret F n 15 [v0, v1] (.int (h.2.1 a 18) :: r0 :: []) h 0 0) := (amWp_dec rfl dX0_isSign_12 rfl).trans (amS4 (Nat.le_of_ble_eq_true rfl) (Nat.le_of_ble_eq_true rfl) (Nat.le_of_ble_eq_true rfl) (Nat.le_of_ble_eq_true rfl))
theorem wX0_isSign_15 {ret F n h} {v0 v1 st} : eX0_isSign ret F (n + 1) 15 [v0, v1] (st) h 0 0 = (eX0_isSign ret F n 16 [v0, v1] (.int (nI 1) :: st) h 0 0) := (amWp_dec rfl dX0_isSign_15 rfl).trans rfl
theorem wX0_isSign_16 {ret F n h} {v0 v1 st y x} : eX0_isSign ret F (n + 1) 16 [v0, v1] (.int y :: .int x :: st) h 0 0 = (eX0_isSign ret F n 17 [v0, v1] (.int (x + y) :: st) h 0 0) := (amWp_dec rfl dX0_isSign_16 rfl).trans rfl
theorem wX0_isSign_17 {ret F n h} {v0 v1 x a} : eX0_isSign ret F (n + 1) 17 [v0, v1] (.int x :: .ref a :: []) h 0 0 = (h.1 a = (0, 0) ∧ amN0 ≤ a ∧ amFit .int (.int x) ∧ eX0_isSign ret F n 20 [v0, v1] ([]) (amSI h (amU h.2.1 a 18 x)) 0 0) := (amWp_dec rfl dX0_isSign_17 rfl).trans (amS4 (Nat.le_of_ble_eq_true rfl) (Nat.le_of_ble_eq_true rfl) (Nat.le_of_ble_eq_true rfl) (Nat.le_of_ble_eq_true rfl))
theorem wX0_isSign_20 {ret F n h} {v0 v1 st} : eX0_isSign ret F (n + 1) 20 [v0, v1] (st) h 0 0 = (eX0_isSign ret F n 21 [v0, v1] (.int (nI 1) :: st) h 0 0) := (amWp_dec rfl dX0_isSign_20 rfl).trans rfl
theorem wX0_isSign_21 {ret F n h} {v0 v1 x} : eX0_isSign ret F (n + 1) 21 [v0, v1] ([.int x]) h 0 0 = (narrow .boolean (.int x) = .int x ∧ ret (some (.int x)) h 0 0) := (amWp_dec rfl dX0_isSign_21 rfl).trans (amRetTy)
theorem evX0_isSign (l : Launch) (G : amG) : ∀ pc S i sz, amLk rX0_isSign pc = some S → decode cX0_isSign pc = .ok (i, sz) → amSiteP pc G l yX0_isSign.cls yX0_isSign.name yX0_isSign.desc (amRm 3 0 0) i sz S.1 S.2.1 S.2.2.1 S.2.2.2 := amLk_ok (by
  refine List.forall_mem_cons.mpr ⟨⟨_, _, dX0_isSign_1, amSite.P (amSiteV (C := RX0) (metX0_nextLetter l G) rfl (by decide) (by decide) (lw_V q1006 q1008 qs31 q86 q1009) ⟨_, rfl, rfl⟩ ⟨rfl, by decide +kernel, by decide +kernel, by decide +kernel⟩)⟩, ?_⟩
  refine List.forall_mem_cons.mpr ⟨⟨_, _, dX0_isSign_12, amSite.P (amSiteGet ⟨_, rfl, by decide, Or.inl q319⟩)⟩, ?_⟩
  refine List.forall_mem_cons.mpr ⟨⟨_, _, dX0_isSign_17, amSite.P (amSitePut ⟨_, rfl, by decide, Or.inl q319⟩ (fun q h => by cases h; rfl))⟩, ?_⟩
  exact fun _ h => absurd h List.not_mem_nil)
theorem goX0_isSign {ret F} (hF : amCld cX0_isSign kX0_isSign (amLk rX0_isSign) (some .boolean) 0 0 ret F) (n : Nat) {pc ls st h k z} (q : sX0_isSign ret F n pc ls st h k z) : F pc ls st h k z := hF.1 n pc ls st h k z q
theorem metX0_isSign (l : Launch) (G : amG) : amMet l G yX0_isSign (ws_ yX0_isSign cX0_isSign 2 (some .boolean)) 3 0 0 tX0_isSign := by
  refine amMet_of (cut := kX0_isSign) (by decide +kernel) (evX0_isSign l G) ?_
  intro as h K hT
  match as, hT with
  | [.ref a, .int x], ⟨X, p, S, c, e, w, e2, c1, c2, hA, hB⟩ =>
  refine ⟨Nat.le_of_ble_eq_true rfl, fun F hF => ?_⟩
  show F 0 [.ref a, .int x] [] h 0 0
  obtain ⟨a, rfl⟩ : ∃ i : Nat, i = a := ⟨_, rfl⟩
  subst e e2
  have hR := w.1.1.1
  refine goX0_isSign hF 60 ?_
  simp (disch := omega) only [wX0_isSign_0, uX0_isSign_0, wX0_isSign_1, wX0_isSign_4, uX0_isSign_4, wX0_isSign_5, wX0_isSign_8, wX0_isSign_9, wX0_isSign_10, wX0_isSign_11, wX0_isSign_12, wX0_isSign_15, wX0_isSign_16, wX0_isSign_17, wX0_isSign_20, wX0_isSign_21, amSI_1, amSI_2, amSI_3, amSI_s, amU_at, amIsR_ref, amIsR_null, amIsR_rf, amRf_some, amRf_none, amClr_int, amClr_ref, amClr_null, amClr_long, amClr_ra, amClr_rf, amFit_int, amFit_oref, amFit_aref, amFit_onull, amFit_anull, amOptSome, amOptNone, List.cons_append, List.nil_append, true_and, and_true, true_implies, not_true_eq_false, not_false_eq_true, false_implies, and_self, Nat.add_zero, Nat.zero_add, ne_eq, Prod.mk.injEq, amC01_0, amC01_1, amC01_nb, amNb0, amNb1, amTcpI_d, Nat.reduceLeDiff, Nat.reduceAdd, Nat.reduceSub, Nat.reduceEqDiff, Nat.le_refl, amN0le, hR.s, hR.r]
  rw [tX0_nextLetter_d]
  refine ⟨X, p, S, rfl, w, fun g fg wg => ?_⟩
  have hR := wg.1.1.1
  have w2 := wg.2.1
  have q := ltI_eq (p := skip X.2.2.2.1 p) wg.1.lt.2.2.2.2.2.2 (show 1 ≤ c by omega) (by omega)
  by_cases z : X.2.2.2.1.getD (skip X.2.2.2.1 p) 0 = c
  · have hp := chr_lt (t := X.2.2.2.1) (p := skip X.2.2.2.1 p) (by omega)
    obtain ⟨f1, w1'⟩ := wg.pl (skip X.2.2.2.1 p + 1) hp
    have key := hA z _ (fg.tr f1) w1'
    have z' := eq_true z
    refine goX0_isSign hF 60 ?_
    simp (disch := omega) only [wX0_isSign_0, uX0_isSign_0, wX0_isSign_1, wX0_isSign_4, uX0_isSign_4, wX0_isSign_5, wX0_isSign_8, wX0_isSign_9, wX0_isSign_10, wX0_isSign_11, wX0_isSign_12, wX0_isSign_15, wX0_isSign_16, wX0_isSign_17, wX0_isSign_20, wX0_isSign_21, amSI_1, amSI_2, amSI_3, amSI_s, amU_at, amIsR_ref, amIsR_null, amIsR_rf, amRf_some, amRf_none, amClr_int, amClr_ref, amClr_null, amClr_long, amClr_ra, amClr_rf, amFit_int, amFit_oref, amFit_aref, amFit_onull, amFit_anull, amOptSome, amOptNone, List.cons_append, List.nil_append, true_and, and_true, true_implies, not_true_eq_false, not_false_eq_true, false_implies, and_self, Nat.add_zero, Nat.zero_add, ne_eq, Prod.mk.injEq, amC01_0, amC01_1, amC01_nb, amNb0, amNb1, amTcpI_d, Nat.reduceLeDiff, Nat.reduceAdd, Nat.reduceSub, Nat.reduceEqDiff, Nat.le_refl, amN0le, hR.s, hR.r, amLeI, amLtI, amEqI, amLe0, amGt0, amEq0, amNotPosI, amGe0, amVI, amCl_nI, amAdd, amSub, amMul, w2, q, z']
    exact amRet.of (by decide) (by decide) key
  · have key := hB z _ fg wg
    have z' := eq_false z
    refine goX0_isSign hF 60 ?_
    simp (disch := omega) only [wX0_isSign_0, uX0_isSign_0, wX0_isSign_1, wX0_isSign_4, uX0_isSign_4, wX0_isSign_5, wX0_isSign_8, wX0_isSign_9, wX0_isSign_10, wX0_isSign_11, wX0_isSign_12, wX0_isSign_15, wX0_isSign_16, wX0_isSign_17, wX0_isSign_20, wX0_isSign_21, amSI_1, amSI_2, amSI_3, amSI_s, amU_at, amIsR_ref, amIsR_null, amIsR_rf, amRf_some, amRf_none, amClr_int, amClr_ref, amClr_null, amClr_long, amClr_ra, amClr_rf, amFit_int, amFit_oref, amFit_aref, amFit_onull, amFit_anull, amOptSome, amOptNone, List.cons_append, List.nil_append, true_and, and_true, true_implies, not_true_eq_false, not_false_eq_true, false_implies, and_self, Nat.add_zero, Nat.zero_add, ne_eq, Prod.mk.injEq, amC01_0, amC01_1, amC01_nb, amNb0, amNb1, amTcpI_d, Nat.reduceLeDiff, Nat.reduceAdd, Nat.reduceSub, Nat.reduceEqDiff, Nat.le_refl, amN0le, hR.s, hR.r, amLeI, amLtI, amEqI, amLe0, amGt0, amEq0, amNotPosI, amGe0, amVI, amCl_nI, amAdd, amSub, amMul, w2, q, z']
    exact amRet.of (by decide) (by decide) key
theorem tX0_isSign_d {a : Nat} {x : Int32} {h : amH} {K : Option Value → amH → Prop} : tX0_isSign [.ref a, .int x] h K = ∃ (X : XS) (p : Nat) (S : HS) (c : Nat), a = (24 : Nat) ∧ RdW h X p S ∧ x = nI c ∧ 33 ≤ c ∧ c < 128 ∧ (X.2.2.2.1.getD (skip X.2.2.2.1 p) 0 = c → ∀ h', rgFr h h' → RdW h' X (skip X.2.2.2.1 p + 1) S → K (some (.int (nI 1))) h') ∧ (¬ X.2.2.2.1.getD (skip X.2.2.2.1 p) 0 = c → ∀ h', rgFr h h' → RdW h' X (skip X.2.2.2.1 p) S → K (some (.int (nI 0))) h') := rfl
def tX0_isLetter : amT := fun as h K => match as with
  | [.ref a, .int x, .int y] => ∃ (X : XS) (p : Nat) (S : HS) (l u : Nat), a = (24 : Nat) ∧ RdW h X p S ∧ x = nI l ∧ y = nI u ∧ 1 ≤ l ∧ l < 128 ∧ u < 128 ∧ K (some (.int (amC01 (l ≤ X.2.2.2.1.getD p 0 ∧ X.2.2.2.1.getD p 0 ≤ u)))) h
  | _ => False
/-! ReadingStages.isLetter(CC)Z -/
def kX0_isLetter : Nat → Bool := fun pc => false
def rX0_isLetter : List (Nat × amS) := [(1, 1, 0, 0, amTget 0 18), (5, 1, 0, 0, amTget 0 17), (8, 1, 0, 0, (amRecv 4 tX4_length)), (15, 1, 0, 0, amTget 0 17), (19, 1, 0, 0, amTget 0 18), (22, 2, 0, 0, (amRecv 4 tX4_charAt)), (30, 3, 0, 0, tX0_isIn)]
def eX0_isLetter (ret : Option Value → amH → Nat → Nat → Prop) (F : amX) : Nat → amX := amWp cX0_isLetter kX0_isLetter (amLk rX0_isLetter) (some .boolean) 0 0 ret F
def sX0_isLetter (ret : Option Value → amH → Nat → Nat → Prop) (F : amX) : Nat → amX := amWs cX0_isLetter kX0_isLetter (amLk rX0_isLetter) (some .boolean) 0 0 ret F
theorem wX0_isLetter_0 {ret F n h} {v0 v1 v2 st} : eX0_isLetter ret F (n + 1) 0 [v0, v1, v2] (st) h 0 0 = (amIsR v0 ∧ eX0_isLetter ret F n 1 [v0, v1, v2] (v0 :: st) h 0 0) := (amWp_dec rfl dX0_isLetter_0 rfl).trans rfl
theorem uX0_isLetter_0 {ret F n h} {v0 v1 v2 st} : sX0_isLetter ret F n 0 [v0, v1, v2] (st) h 0 0 = (amIsR v0 ∧ eX0_isLetter ret F n 1 [v0, v1, v2] (v0 :: st) h 0 0) := (amWs_dec dX0_isLetter_0 rfl).trans rfl
theorem wX0_isLetter_1 {ret F n h} {v0 v1 v2 a} : eX0_isLetter ret F (n + 1) 1 [v0, v1, v2] (.ref a :: []) h 0 0 = (h.1 a = (0, 0) ∧ eX0_isLetter ret F n 4 [v0, v1, v2] (.int (h.2.1 a 18) :: []) h 0 0) := (amWp_dec rfl dX0_isLetter_1 rfl).trans (amS4 (Nat.le_of_ble_eq_true rfl) (Nat.le_of_ble_eq_true rfl) (Nat.le_of_ble_eq_true rfl) (Nat.le_of_ble_eq_true rfl))
theorem wX0_isLetter_4 {ret F n h} {v0 v1 v2 st} : eX0_isLetter ret F (n + 1) 4 [v0, v1, v2] (st) h 0 0 = (amIsR v0 ∧ eX0_isLetter ret F n 5 [v0, v1, v2] (v0 :: st) h 0 0) := (amWp_dec rfl dX0_isLetter_4 rfl).trans rfl
theorem wX0_isLetter_5 {ret F n h} {v0 v1 v2 r0 a} : eX0_isLetter ret F (n + 1) 5 [v0, v1, v2] (.ref a :: r0 :: []) h 0 0 = (h.1 a = (0, 0) ∧ eX0_isLetter ret F n 8 [v0, v1, v2] (va_rf (h.2.2.2.1 a 17) :: r0 :: []) h 0 0) := (amWp_dec rfl dX0_isLetter_5 rfl).trans (amS4 (Nat.le_of_ble_eq_true rfl) (Nat.le_of_ble_eq_true rfl) (Nat.le_of_ble_eq_true rfl) (Nat.le_of_ble_eq_true rfl))
theorem wX0_isLetter_8 {ret F n h} {v0 v1 v2 x0 r0} : eX0_isLetter ret F (n + 1) 8 [v0, v1, v2] (.ref x0 :: r0 :: []) h 0 0 = (h.1 x0 = (0, 4) ∧ tX4_length [.ref x0] h (fun v h => eX0_isLetter ret F n 11 [v0, v1, v2] (v.toList ++ (r0 :: [])) h 0 0)) := (amWp_dec rfl dX0_isLetter_8 rfl).trans (amS4 (Nat.le_of_ble_eq_true rfl) (Nat.le_of_ble_eq_true rfl) (Nat.le_of_ble_eq_true rfl) (Nat.le_of_ble_eq_true rfl))
theorem wX0_isLetter_11 {ret F n h} {v0 v1 v2 st y x} : eX0_isLetter ret F (n + 1) 11 [v0, v1, v2] (.int y :: .int x :: st) h 0 0 = ((y ≤ x → eX0_isLetter ret F n 40 [v0, v1, v2] (st) h 0 0) ∧ (¬ y ≤ x → eX0_isLetter ret F n 14 [v0, v1, v2] (st) h 0 0)) := (amWp_dec rfl dX0_isLetter_11 rfl).trans rfl
theorem wX0_isLetter_14 {ret F n h} {v0 v1 v2 st} : eX0_isLetter ret F (n + 1) 14 [v0, v1, v2] (st) h 0 0 = (amIsR v0 ∧ eX0_isLetter ret F n 15 [v0, v1, v2] (v0 :: st) h 0 0) := (amWp_dec rfl dX0_isLetter_14 rfl).trans rfl
theorem wX0_isLetter_15 {ret F n h} {v0 v1 v2 a} : eX0_isLetter ret F (n + 1) 15 [v0, v1, v2] (.ref a :: []) h 0 0 = (h.1 a = (0, 0) ∧ eX0_isLetter ret F n 18 [v0, v1, v2] (va_rf (h.2.2.2.1 a 17) :: []) h 0 0) := (amWp_dec rfl dX0_isLetter_15 rfl).trans (amS4 (Nat.le_of_ble_eq_true rfl) (Nat.le_of_ble_eq_true rfl) (Nat.le_of_ble_eq_true rfl) (Nat.le_of_ble_eq_true rfl))
theorem wX0_isLetter_18 {ret F n h} {v0 v1 v2 st} : eX0_isLetter ret F (n + 1) 18 [v0, v1, v2] (st) h 0 0 = (amIsR v0 ∧ eX0_isLetter ret F n 19 [v0, v1, v2] (v0 :: st) h 0 0) := (amWp_dec rfl dX0_isLetter_18 rfl).trans rfl
theorem wX0_isLetter_19 {ret F n h} {v0 v1 v2 r0 a} : eX0_isLetter ret F (n + 1) 19 [v0, v1, v2] (.ref a :: r0 :: []) h 0 0 = (h.1 a = (0, 0) ∧ eX0_isLetter ret F n 22 [v0, v1, v2] (.int (h.2.1 a 18) :: r0 :: []) h 0 0) := (amWp_dec rfl dX0_isLetter_19 rfl).trans (amS4 (Nat.le_of_ble_eq_true rfl) (Nat.le_of_ble_eq_true rfl) (Nat.le_of_ble_eq_true rfl) (Nat.le_of_ble_eq_true rfl))
theorem wX0_isLetter_22 {ret F n h} {v0 v1 v2 x1 x0} : eX0_isLetter ret F (n + 1) 22 [v0, v1, v2] (.int x1 :: .ref x0 :: []) h 0 0 = (h.1 x0 = (0, 4) ∧ tX4_charAt [.ref x0, .int x1] h (fun v h => eX0_isLetter ret F n 25 [v0, v1, v2] (v.toList ++ ([])) h 0 0)) := (amWp_dec rfl dX0_isLetter_22 rfl).trans (amS4 (Nat.le_of_ble_eq_true rfl) (Nat.le_of_ble_eq_true rfl) (Nat.le_of_ble_eq_true rfl) (Nat.le_of_ble_eq_true rfl))
theorem wX0_isLetter_25 {ret F n h} {v0 v1 v2 st x} : eX0_isLetter ret F (n + 1) 25 [v0, v1, v2] (.int x :: st) h 0 0 = (eX0_isLetter ret F n 26 [v0, v1, v2] (.long x.toInt64 :: st) h 0 0) := (amWp_dec rfl dX0_isLetter_25 rfl).trans rfl
theorem wX0_isLetter_26 {ret F n h} {v0 v2 st x} : eX0_isLetter ret F (n + 1) 26 [v0, .int x, v2] (st) h 0 0 = (eX0_isLetter ret F n 27 [v0, .int x, v2] (.int x :: st) h 0 0) := (amWp_dec rfl dX0_isLetter_26 rfl).trans rfl
theorem wX0_isLetter_27 {ret F n h} {v0 v1 v2 st x} : eX0_isLetter ret F (n + 1) 27 [v0, v1, v2] (.int x :: st) h 0 0 = (eX0_isLetter ret F n 28 [v0, v1, v2] (.long x.toInt64 :: st) h 0 0) := (amWp_dec rfl dX0_isLetter_27 rfl).trans rfl
theorem wX0_isLetter_28 {ret F n h} {v0 v1 st x} : eX0_isLetter ret F (n + 1) 28 [v0, v1, .int x] (st) h 0 0 = (eX0_isLetter ret F n 29 [v0, v1, .int x] (.int x :: st) h 0 0) := (amWp_dec rfl dX0_isLetter_28 rfl).trans rfl
theorem wX0_isLetter_29 {ret F n h} {v0 v1 v2 st x} : eX0_isLetter ret F (n + 1) 29 [v0, v1, v2] (.int x :: st) h 0 0 = (eX0_isLetter ret F n 30 [v0, v1, v2] (.long x.toInt64 :: st) h 0 0) := (amWp_dec rfl dX0_isLetter_29 rfl).trans rfl
theorem wX0_isLetter_30 {ret F n h} {v0 v1 v2 x2 x1 x0} : eX0_isLetter ret F (n + 1) 30 [v0, v1, v2] (.long x2 :: .long x1 :: .long x0 :: []) h 0 0 = (tX0_isIn [.long x0, .long x1, .long x2] h (fun v h => eX0_isLetter ret F n 33 [v0, v1, v2] (v.toList ++ ([])) h 0 0)) := (amWp_dec rfl dX0_isLetter_30 rfl).trans (amS4 (Nat.le_of_ble_eq_true rfl) (Nat.le_of_ble_eq_true rfl) (Nat.le_of_ble_eq_true rfl) (Nat.le_of_ble_eq_true rfl))
theorem wX0_isLetter_33 {ret F n h} {v0 v1 v2 st x} : eX0_isLetter ret F (n + 1) 33 [v0, v1, v2] (.int x :: st) h 0 0 = ((x = 0 → eX0_isLetter ret F n 40 [v0, v1, v2] (st) h 0 0) ∧ (¬ x = 0 → eX0_isLetter ret F n 36 [v0, v1, v2] (st) h 0 0)) := (amWp_dec rfl dX0_isLetter_33 rfl).trans rfl
theorem wX0_isLetter_36 {ret F n h} {v0 v1 v2 st} : eX0_isLetter ret F (n + 1) 36 [v0, v1, v2] (st) h 0 0 = (eX0_isLetter ret F n 37 [v0, v1, v2] (.int (nI 1) :: st) h 0 0) := (amWp_dec rfl dX0_isLetter_36 rfl).trans rfl
theorem wX0_isLetter_37 {ret F n h} {v0 v1 v2 st} : eX0_isLetter ret F (n + 1) 37 [v0, v1, v2] (st) h 0 0 = (eX0_isLetter ret F n 41 [v0, v1, v2] (st) h 0 0) := (amWp_dec rfl dX0_isLetter_37 rfl).trans rfl
theorem wX0_isLetter_40 {ret F n h} {v0 v1 v2 st} : eX0_isLetter ret F (n + 1) 40 [v0, v1, v2] (st) h 0 0 = (eX0_isLetter ret F n 41 [v0, v1, v2] (.int (nI 0) :: st) h 0 0) := (amWp_dec rfl dX0_isLetter_40 rfl).trans rfl
theorem wX0_isLetter_41 {ret F n h} {v0 v1 v2 x} : eX0_isLetter ret F (n + 1) 41 [v0, v1, v2] ([.int x]) h 0 0 = (narrow .boolean (.int x) = .int x ∧ ret (some (.int x)) h 0 0) := (amWp_dec rfl dX0_isLetter_41 rfl).trans (amRetTy)
theorem evX0_isLetter (l : Launch) (G : amG) : ∀ pc S i sz, amLk rX0_isLetter pc = some S → decode cX0_isLetter pc = .ok (i, sz) → amSiteP pc G l yX0_isLetter.cls yX0_isLetter.name yX0_isLetter.desc (amRm 2 0 0) i sz S.1 S.2.1 S.2.2.1 S.2.2.2 := amLk_ok (by
  refine List.forall_mem_cons.mpr ⟨⟨_, _, dX0_isLetter_1, amSite.P (amSiteGet ⟨_, rfl, by decide, Or.inl q319⟩)⟩, ?_⟩
  refine List.forall_mem_cons.mpr ⟨⟨_, _, dX0_isLetter_5, amSite.P (amSiteGet ⟨_, rfl, by decide, Or.inl q318⟩)⟩, ?_⟩
  refine List.forall_mem_cons.mpr ⟨⟨_, _, dX0_isLetter_8, amSite.P (amSiteV (C := RX4) (metX4_length l G) rfl (by decide) (by decide) (lw_V q1010 q1011 q1012 q92 q1013) ⟨_, rfl, rfl⟩ ⟨rfl, by decide +kernel, by decide +kernel, by decide +kernel⟩)⟩, ?_⟩
  refine List.forall_mem_cons.mpr ⟨⟨_, _, dX0_isLetter_15, amSite.P (amSiteGet ⟨_, rfl, by decide, Or.inl q318⟩)⟩, ?_⟩
  refine List.forall_mem_cons.mpr ⟨⟨_, _, dX0_isLetter_19, amSite.P (amSiteGet ⟨_, rfl, by decide, Or.inl q319⟩)⟩, ?_⟩
  refine List.forall_mem_cons.mpr ⟨⟨_, _, dX0_isLetter_22, amSite.P (amSiteV (C := RX4) (metX4_charAt l G) rfl (by decide) (by decide) (lw_V q1014 q1015 q1016 q92 q1017) ⟨_, rfl, rfl⟩ ⟨rfl, by decide +kernel, by decide +kernel, by decide +kernel⟩)⟩, ?_⟩
  refine List.forall_mem_cons.mpr ⟨⟨_, _, dX0_isLetter_30, amSite.P (amSiteS (metX0_isIn l G) rfl (by decide) (by decide) (lw_S q382 q383 q86 q384) ⟨by decide +kernel, by decide +kernel, by decide +kernel⟩)⟩, ?_⟩
  exact fun _ h => absurd h List.not_mem_nil)
theorem goX0_isLetter {ret F} (hF : amCld cX0_isLetter kX0_isLetter (amLk rX0_isLetter) (some .boolean) 0 0 ret F) (n : Nat) {pc ls st h k z} (q : sX0_isLetter ret F n pc ls st h k z) : F pc ls st h k z := hF.1 n pc ls st h k z q
theorem metX0_isLetter (l : Launch) (G : amG) : amMet l G yX0_isLetter (ws_ yX0_isLetter cX0_isLetter 3 (some .boolean)) 2 0 0 tX0_isLetter := by
  refine amMet_of (cut := kX0_isLetter) (by decide +kernel) (evX0_isLetter l G) ?_
  intro as h K hT
  match as, hT with
  | [.ref a, .int x, .int y], ⟨X, p, S, l, u, e, w, e2, e3, l1, l2, u2, hK⟩ =>
  refine ⟨Nat.le_of_ble_eq_true rfl, fun F hF => ?_⟩
  show F 0 [.ref a, .int x, .int y] [] h 0 0
  obtain ⟨a, rfl⟩ : ∃ i : Nat, i = a := ⟨_, rfl⟩
  subst e e2 e3
  obtain ⟨w1, w2, w3, w4⟩ := id w
  have hR := w1.1.1
  have L := w1.lt
  have t90 := L.2.2.2.1
  have ln := L.2.2.2.2.1
  have ge0 : (0 ≤ l) = True := eq_true (Nat.zero_le _)
  by_cases hp : p < X.2.2.2.1.length
  · have c1 : (X.2.2.2.1.length ≤ p) = False := eq_false (by omega)
    have l126 := (L.2.2.2.2.2.2 _ (getD_mem hp)).2
    refine goX0_isLetter hF 60 ?_
    simp (disch := omega) only [wX0_isLetter_0, uX0_isLetter_0, wX0_isLetter_1, wX0_isLetter_4, wX0_isLetter_5, wX0_isLetter_8, wX0_isLetter_11, wX0_isLetter_14, wX0_isLetter_15, wX0_isLetter_18, wX0_isLetter_19, wX0_isLetter_22, wX0_isLetter_25, wX0_isLetter_26, wX0_isLetter_27, wX0_isLetter_28, wX0_isLetter_29, wX0_isLetter_30, wX0_isLetter_33, wX0_isLetter_36, wX0_isLetter_37, wX0_isLetter_40, wX0_isLetter_41, amSI_1, amSI_2, amSI_3, amSI_s, amU_at, amIsR_ref, amIsR_null, amIsR_rf, amRf_some, amRf_none, amClr_int, amClr_ref, amClr_null, amClr_long, amClr_ra, amClr_rf, amFit_int, amFit_oref, amFit_aref, amFit_onull, amFit_anull, amOptSome, amOptNone, List.cons_append, List.nil_append, true_and, and_true, true_implies, not_true_eq_false, not_false_eq_true, false_implies, and_self, Nat.add_zero, Nat.zero_add, ne_eq, Prod.mk.injEq, amC01_0, amC01_1, amC01_nb, amNb0, amNb1, amTcpI_d, Nat.reduceLeDiff, Nat.reduceAdd, Nat.reduceSub, Nat.reduceEqDiff, Nat.le_refl, amN0le, hR.s, hR.r, amLeI, amLtI, amEqI, amLe0, amGt0, amEq0, amNotPosI, amGe0, amVI, amCl_nI, amAdd, amSub, amMul, w2, ln, tX4_length_d, c1]
    rw [tX4_charAt_d]
    refine ⟨_, p, rfl, L, rfl, hp, ?_⟩
    simp (disch := omega) only [wX0_isLetter_0, uX0_isLetter_0, wX0_isLetter_1, wX0_isLetter_4, wX0_isLetter_5, wX0_isLetter_8, wX0_isLetter_11, wX0_isLetter_14, wX0_isLetter_15, wX0_isLetter_18, wX0_isLetter_19, wX0_isLetter_22, wX0_isLetter_25, wX0_isLetter_26, wX0_isLetter_27, wX0_isLetter_28, wX0_isLetter_29, wX0_isLetter_30, wX0_isLetter_33, wX0_isLetter_36, wX0_isLetter_37, wX0_isLetter_40, wX0_isLetter_41, amSI_1, amSI_2, amSI_3, amSI_s, amU_at, amIsR_ref, amIsR_null, amIsR_rf, amRf_some, amRf_none, amClr_int, amClr_ref, amClr_null, amClr_long, amClr_ra, amClr_rf, amFit_int, amFit_oref, amFit_aref, amFit_onull, amFit_anull, amOptSome, amOptNone, List.cons_append, List.nil_append, true_and, and_true, true_implies, not_true_eq_false, not_false_eq_true, false_implies, and_self, Nat.add_zero, Nat.zero_add, ne_eq, Prod.mk.injEq, amC01_0, amC01_1, amC01_nb, amNb0, amNb1, amTcpI_d, Nat.reduceLeDiff, Nat.reduceAdd, Nat.reduceSub, Nat.reduceEqDiff, Nat.le_refl, amN0le, hR.s, hR.r, amLeI, amLtI, amEqI, amLe0, amGt0, amEq0, amNotPosI, amGe0, amVI, amCl_nI, amAdd, amSub, amMul, w2, am64, lN_leB, tX0_isIn_d]
    by_cases z : l ≤ X.2.2.2.1.getD p 0 ∧ X.2.2.2.1.getD p 0 ≤ u
    · rw [amC01_t z] at hK
      exact ⟨fun q => absurd z q, fun _ => amRet.of (by decide) (by decide) hK⟩
    · rw [amC01_f z] at hK
      exact ⟨fun _ => amRet.of (by decide) (by decide) hK, fun q => absurd (Classical.not_not.mp q) z⟩
  · have e : p = X.2.2.2.1.length := by omega
    subst e
    rw [chr_out (Nat.le_refl _), amC01_f (by omega)] at hK
    refine goX0_isLetter hF 60 ?_
    simp (disch := omega) only [wX0_isLetter_0, uX0_isLetter_0, wX0_isLetter_1, wX0_isLetter_4, wX0_isLetter_5, wX0_isLetter_8, wX0_isLetter_11, wX0_isLetter_14, wX0_isLetter_15, wX0_isLetter_18, wX0_isLetter_19, wX0_isLetter_22, wX0_isLetter_25, wX0_isLetter_26, wX0_isLetter_27, wX0_isLetter_28, wX0_isLetter_29, wX0_isLetter_30, wX0_isLetter_33, wX0_isLetter_36, wX0_isLetter_37, wX0_isLetter_40, wX0_isLetter_41, amSI_1, amSI_2, amSI_3, amSI_s, amU_at, amIsR_ref, amIsR_null, amIsR_rf, amRf_some, amRf_none, amClr_int, amClr_ref, amClr_null, amClr_long, amClr_ra, amClr_rf, amFit_int, amFit_oref, amFit_aref, amFit_onull, amFit_anull, amOptSome, amOptNone, List.cons_append, List.nil_append, true_and, and_true, true_implies, not_true_eq_false, not_false_eq_true, false_implies, and_self, Nat.add_zero, Nat.zero_add, ne_eq, Prod.mk.injEq, amC01_0, amC01_1, amC01_nb, amNb0, amNb1, amTcpI_d, Nat.reduceLeDiff, Nat.reduceAdd, Nat.reduceSub, Nat.reduceEqDiff, Nat.le_refl, amN0le, hR.s, hR.r, amLeI, amLtI, amEqI, amLe0, amGt0, amEq0, amNotPosI, amGe0, amVI, amCl_nI, amAdd, amSub, amMul, w2, ln, tX4_length_d]
    exact amRet.of (by decide) (by decide) hK
theorem tX0_isLetter_d {a : Nat} {x y : Int32} {h : amH} {K : Option Value → amH → Prop} : tX0_isLetter [.ref a, .int x, .int y] h K = ∃ (X : XS) (p : Nat) (S : HS) (l u : Nat), a = (24 : Nat) ∧ RdW h X p S ∧ x = nI l ∧ y = nI u ∧ 1 ≤ l ∧ l < 128 ∧ u < 128 ∧ K (some (.int (amC01 (l ≤ X.2.2.2.1.getD p 0 ∧ X.2.2.2.1.getD p 0 ≤ u)))) h := rfl
