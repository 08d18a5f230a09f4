/-! the reference's world; holding and noting -/
set_option maxRecDepth 100000
/-- what may be undone, in rows -/
def UnM (m : Nat → Nat → Int32) (U : List HS) : Prop := U.length ≤ 6 ∧ m 124 2 = nI U.length ∧ ∀ k, k < U.length → RwIs m 126 (27 * k) (U.getD k HS0)
def ImM (m : Nat → Nat → Int32) (o : Option (HS × List HS)) : Prop := match o with
  | none => m 124 5 = -1
  | some (S, U) => U.length ≤ 6 ∧ m 124 5 = nI U.length ∧ RwIs m 127 0 S ∧ ∀ k, k < U.length → RwIs m 128 (27 * k) (U.getD k HS0)
def TpM (m : Nat → Nat → Int32) (t : List Nat) : Prop := t.length ≤ 90 ∧ m 124 7 = nI t.length ∧ ∀ i, i < t.length → m 129 i = nI (t.getD i 0)
def ShM1 (m : Nat → Nat → Int32) (L : Nat → Nat → Int64) (s : Nat) (o : Option (Nat × List Int64)) : Prop := match o with
  | none => m 130 s = -1
  | some (k, vs) => k < 4 ∧ vs.length ≤ 24 ∧ m 130 s = nI k ∧ m 131 s = nI vs.length ∧ ∀ p, p < vs.length → L 132 (24 * s + p) = vs.getD p 0
def ShM (m : Nat → Nat → Int32) (L : Nat → Nat → Int64) (sh : Nat → Option (Nat × List Int64)) : Prop := ∀ s, s < 4 → ShM1 m L s (sh s)
/-- the reference stands so -/
def MdW (h : amH) (X : XS) : Prop := mdAt h ∧ RwIs h.2.1 125 0 X.1 ∧ UnM h.2.1 X.2.1 ∧ ImM h.2.1 X.2.2.1 ∧ TpM h.2.1 X.2.2.2.1 ∧ ShM h.2.1 h.2.2.1 X.2.2.2.2
theorem UnM.kept {m m' : Nat → Nat → Int32} {U : List HS} (h : UnM m U) (e1 : m' 124 2 = m 124 2) (e2 : m' 126 = m 126) : UnM m' U := ⟨h.1, by rw [e1]; exact h.2.1, fun k hk => (h.2.2 k hk).kept e2⟩
theorem ImM.kept {m m' : Nat → Nat → Int32} {o : Option (HS × List HS)} (h : ImM m o) (e1 : m' 124 5 = m 124 5) (e2 : m' 127 = m 127) (e3 : m' 128 = m 128) : ImM m' o := by
  cases o with
  | none => show m' 124 5 = _; rw [e1]; exact h
  | some v =>
    obtain ⟨S, U⟩ := v
    obtain ⟨h1, h2, h3, h4⟩ := h
    exact ⟨h1, by rw [e1]; exact h2, h3.kept e2, fun k hk => (h4 k hk).kept e3⟩
theorem TpM.kept {m m' : Nat → Nat → Int32} {t : List Nat} (h : TpM m t) (e1 : m' 124 7 = m 124 7) (e2 : m' 129 = m 129) : TpM m' t := ⟨h.1, by rw [e1]; exact h.2.1, fun i hi => by rw [e2]; exact h.2.2 i hi⟩
theorem ShM.kept {m m' : Nat → Nat → Int32} {L L' : Nat → Nat → Int64} {sh : Nat → Option (Nat × List Int64)} (h : ShM m L sh) (e1 : m' 130 = m 130) (e2 : m' 131 = m 131) (e3 : L' 132 = L 132) : ShM m' L' sh := fun s hs => by
  have := h s hs
  unfold ShM1 at this ⊢
  rw [e1, e2, e3]
  exact this
/-- nothing but the reference's cells has changed -/
def msFr (h h' : amH) : Prop := h'.1 = h.1 ∧ h'.2.2.2.1 = h.2.2.2.1 ∧ h'.2.2.2.2 = h.2.2.2.2 ∧ (∀ i : Nat, (i < 124 ∨ 143 ≤ i) → h'.2.1 i = h.2.1 i) ∧ ∀ i : Nat, i ≠ 132 → i ≠ 133 → h'.2.2.1 i = h.2.2.1 i
theorem msFr.rf (h : amH) : msFr h h := ⟨rfl, rfl, rfl, fun _ _ => rfl, fun _ _ _ => rfl⟩
theorem msFr.si {h : amH} {m : Nat → Nat → Int32} (f : ∀ i : Nat, (i < 124 ∨ 143 ≤ i) → m i = h.2.1 i) : msFr h (amSI h m) := ⟨rfl, rfl, rfl, f, fun _ _ _ => rfl⟩
theorem MdW.sys {h : amH} {X : XS} (w : MdW h X) (hO : hsOk X.1) : mdSys h X.1 := ⟨w.1, w.2.1, hO⟩
/-- the other one's cells are untouched -/
theorem RsW.ms {h h' : amH} {X : XS} (w : RsW h X) (f : msFr h h') : RsW h' X := by
  obtain ⟨f1, f2, f3, f4, f5⟩ := f
  obtain ⟨⟨w1, w2, w3, w4⟩, w5, w6, w7, w8, w9, w10, w11⟩ := w
  refine ⟨⟨w1.mv (fun i _ => by rw [f1]) (fun i _ _ _ _ => by rw [f2]), w2.kept (fun i _ _ => f4 i (by omega)), w3, by rw [f3]; exact w4⟩, fun j hj => ⟨(w5 j hj).1.mv (fun i _ _ => ⟨by rw [f1], by rw [f2]⟩), (w5 j hj).2.mv (fun i _ _ => ⟨by rw [f1], by rw [f2]⟩)⟩, fun k hk => by rw [f2]; exact w6 k hk, ?_, w8, ?_, w10.mv (f4 43 (by omega)) (f4 44 (by omega)), w11.mv (fun s _ => by rw [f2]) (by rw [f3]; exact Nat.le_refl _) (fun i h1 h2 => ⟨by rw [f1], f4 i (by omega), f5 i (by omega) (by omega)⟩)⟩
  · rw [f2]
    exact w7.mv (by rw [f4 24 (by omega)]) rfl (fun i hi => f4 i (by unfold pastC at hi; omega))
  · cases hk : X.2.2.1 with
    | none =>
      rw [hk] at w9
      show h'.2.1 24 23 = _
      rw [f4 24 (by omega)]
      exact w9
    | some v =>
      rw [hk] at w9
      obtain ⟨S, U⟩ := v
      obtain ⟨q1, q2, q3, q4, q5, q6, q7⟩ := w9
      refine ⟨by rw [f4 24 (by omega)]; exact q1, q2.kept (fun i _ _ => f4 i (by omega)), q3, q4, by rw [f4 24 (by omega)]; exact q5, fun k hk => (q6 k hk).kept (fun i h1 h2 => f4 i (by omega)), q7⟩
theorem MdW.rs {h h' : amH} {X : XS} (w : MdW h X) (f : rsFr h h') : MdW h' X := by
  obtain ⟨w1, w2, w3, w4, w5, w6⟩ := w
  have e := fun i (h1 : 124 ≤ i) (h2 : i < 143) => f.2 i h1 h2
  have i124 := (e 124 (by omega) (by omega)).2.1
  refine ⟨⟨?_, ?_⟩, w2.kept (e 125 (by omega) (by omega)).2.1, w3.kept (by rw [i124]) (e 126 (by omega) (by omega)).2.1, w4.kept (by rw [i124]) (e 127 (by omega) (by omega)).2.1 (e 128 (by omega) (by omega)).2.1, w5.kept (by rw [i124]) (e 129 (by omega) (by omega)).2.1, w6.kept (e 130 (by omega) (by omega)).2.1 (e 131 (by omega) (by omega)).2.1 (e 132 (by omega) (by omega)).2.2.1⟩
  · have s := w1.s
    have e1 : ∀ i : Nat, 124 ≤ i → i < 143 → h'.1 i = h.1 i := fun i h1 h2 => (e i h1 h2).1
    unfold mdSh
    simp (disch := omega) only [e1, s, and_self]
  · have r := w1.r
    have e2 : h'.2.2.2.1 124 = h.2.2.2.1 124 := (e 124 (by omega) (by omega)).2.2.2
    unfold mdRf
    rw [e2]
    exact r
def tX6_holds : amT := fun as h K => match as with
  | [.ref a] => a = (124 : Nat) ∧ mdAt h ∧ ∀ m', (∀ p : Nat, p < 27 → m' 142 p = h.2.1 125 p) → (∀ i : Nat, i ≠ 142 → m' i = h.2.1 i) → K none (amSI h m')
  | _ => False
/-! ReadingStagesModel.holds()V -/
def kX6_holds : Nat → Bool := fun pc => pc == 2
def rX6_holds : List (Nat × amS) := [(9, 1, 0, 0, amTget 6 24), (14, 1, 0, 0, amTget 6 0)]
def eX6_holds (ret : Option Value → amH → Nat → Nat → Prop) (F : amX) : Nat → amX := amWp cX6_holds kX6_holds (amLk rX6_holds) none 0 0 ret F
def sX6_holds (ret : Option Value → amH → Nat → Nat → Prop) (F : amX) : Nat → amX := amWs cX6_holds kX6_holds (amLk rX6_holds) none 0 0 ret F
theorem wX6_holds_0 {ret F n h} {v0 v1 st} : eX6_holds ret F (n + 1) 0 [v0, v1] (st) h 0 0 = (eX6_holds ret F n 1 [v0, v1] (.int (nI 0) :: st) h 0 0) := (amWp_dec rfl dX6_holds_0 rfl).trans rfl
theorem uX6_holds_0 {ret F n h} {v0 v1 st} : sX6_holds ret F n 0 [v0, v1] (st) h 0 0 = (eX6_holds ret F n 1 [v0, v1] (.int (nI 0) :: st) h 0 0) := (amWs_dec dX6_holds_0 rfl).trans rfl
theorem wX6_holds_1 {ret F n h} {v0 v1 st x} : eX6_holds ret F (n + 1) 1 [v0, v1] (.int x :: st) h 0 0 = (eX6_holds ret F n 2 [amClr v0, .int x] (st) h 0 0) := (amWp_dec rfl dX6_holds_1 rfl).trans (amTrue (Nat.le_of_ble_eq_true rfl))
theorem wX6_holds_2 {ret F n ls st h k z} : eX6_holds ret F (n + 1) 2 ls st h k z = F 2 ls st h k z := amWp_cut rfl
theorem uX6_holds_2 {ret F n h} {v0 st x} : sX6_holds ret F n 2 [v0, .int x] (st) h 0 0 = (eX6_holds ret F n 3 [v0, .int x] (.int x :: st) h 0 0) := (amWs_dec dX6_holds_2 rfl).trans rfl
theorem wX6_holds_3 {ret F n h} {v0 v1 st} : eX6_holds ret F (n + 1) 3 [v0, v1] (st) h 0 0 = (eX6_holds ret F n 5 [v0, v1] (.int (nI 27) :: st) h 0 0) := (amWp_dec rfl dX6_holds_3 rfl).trans rfl
theorem wX6_holds_5 {ret F n h} {v0 v1 st y x} : eX6_holds ret F (n + 1) 5 [v0, v1] (.int y :: .int x :: st) h 0 0 = ((y ≤ x → eX6_holds ret F n 26 [v0, v1] (st) h 0 0) ∧ (¬ y ≤ x → eX6_holds ret F n 8 [v0, v1] (st) h 0 0)) := (amWp_dec rfl dX6_holds_5 rfl).trans rfl
theorem wX6_holds_8 {ret F n h} {v0 v1 st} : eX6_holds ret F (n + 1) 8 [v0, v1] (st) h 0 0 = (amIsR v0 ∧ eX6_holds ret F n 9 [v0, v1] (v0 :: st) h 0 0) := (amWp_dec rfl dX6_holds_8 rfl).trans rfl
theorem wX6_holds_9 {ret F n h} {v0 v1 a} : eX6_holds ret F (n + 1) 9 [v0, v1] (.ref a :: []) h 0 0 = (h.1 a = (0, 6) ∧ eX6_holds ret F n 12 [v0, v1] (va_rf (h.2.2.2.1 a 24) :: []) h 0 0) := (amWp_dec rfl dX6_holds_9 rfl).trans (amS4 (Nat.le_of_ble_eq_true rfl) (Nat.le_of_ble_eq_true rfl) (Nat.le_of_ble_eq_true rfl) (Nat.le_of_ble_eq_true rfl))
theorem wX6_holds_12 {ret F n h} {v0 st x} : eX6_holds ret F (n + 1) 12 [v0, .int x] (st) h 0 0 = (eX6_holds ret F n 13 [v0, .int x] (.int x :: st) h 0 0) := (amWp_dec rfl dX6_holds_12 rfl).trans rfl
theorem wX6_holds_13 {ret F n h} {v0 v1 st} : eX6_holds ret F (n + 1) 13 [v0, v1] (st) h 0 0 = (amIsR v0 ∧ eX6_holds ret F n 14 [v0, v1] (v0 :: st) h 0 0) := (amWp_dec rfl dX6_holds_13 rfl).trans rfl
theorem wX6_holds_14 {ret F n h} {v0 v1 r0 r1 a} : eX6_holds ret F (n + 1) 14 [v0, v1] (.ref a :: r0 :: r1 :: []) h 0 0 = (h.1 a = (0, 6) ∧ eX6_holds ret F n 17 [v0, v1] (va_rf (h.2.2.2.1 a 0) :: r0 :: r1 :: []) h 0 0) := (amWp_dec rfl dX6_holds_14 rfl).trans (amS4 (Nat.le_of_ble_eq_true rfl) (Nat.le_of_ble_eq_true rfl) (Nat.le_of_ble_eq_true rfl) (Nat.le_of_ble_eq_true rfl))
theorem wX6_holds_17 {ret F n h} {v0 st x} : eX6_holds ret F (n + 1) 17 [v0, .int x] (st) h 0 0 = (eX6_holds ret F n 18 [v0, .int x] (.int x :: st) h 0 0) := (amWp_dec rfl dX6_holds_17 rfl).trans rfl
theorem wX6_holds_18 {ret F n h} {v0 v1 st x a} : eX6_holds ret F (n + 1) 18 [v0, v1] (.int x :: .ref a :: st) h 0 0 = ((h.1 a).1 = 1 ∧ vp_in x (h.1 a).2 ∧ eX6_holds ret F n 19 [v0, v1] (.int (h.2.1 a x.toNatClampNeg) :: st) h 0 0) := (amWp_dec rfl dX6_holds_18 rfl).trans rfl
theorem wX6_holds_19 {ret F n h} {v0 v1 st y x a} : eX6_holds ret F (n + 1) 19 [v0, v1] (.int y :: .int x :: .ref a :: st) h 0 0 = ((h.1 a).1 = 1 ∧ vp_in x (h.1 a).2 ∧ amN0 ≤ a ∧ eX6_holds ret F n 20 [v0, v1] (st) (amSI h (amU h.2.1 a x.toNatClampNeg y)) 0 0) := (amWp_dec rfl dX6_holds_19 rfl).trans rfl
theorem wX6_holds_20 {ret F n h} {v0 st x} : eX6_holds ret F (n + 1) 20 [v0, .int x] (st) h 0 0 = (eX6_holds ret F n 23 [amClr v0, .int (x + nI 1)] (st) h 0 0) := (amWp_dec rfl dX6_holds_20 rfl).trans rfl
theorem wX6_holds_23 {ret F n h} {v0 v1 st} : eX6_holds ret F (n + 1) 23 [v0, v1] (st) h 0 0 = (eX6_holds ret F n 2 [v0, v1] (st) h 0 0) := (amWp_dec rfl dX6_holds_23 rfl).trans rfl
theorem wX6_holds_26 {ret F n h} {v0 v1} : eX6_holds ret F (n + 1) 26 [v0, v1] ([]) h 0 0 = (ret none h 0 0) := (amWp_dec rfl dX6_holds_26 rfl).trans (amTrue rfl)
theorem evX6_holds (l : Launch) (G : amG) : ∀ pc S i sz, amLk rX6_holds pc = some S → decode cX6_holds pc = .ok (i, sz) → amSiteP pc G l yX6_holds.cls yX6_holds.name yX6_holds.desc (amRm 1 0 0) i sz S.1 S.2.1 S.2.2.1 S.2.2.2 := amLk_ok (by
  refine List.forall_mem_cons.mpr ⟨⟨_, _, dX6_holds_9, amSite.P (amSiteGet ⟨_, rfl, by decide, Or.inl q1319⟩)⟩, ?_⟩
  refine List.forall_mem_cons.mpr ⟨⟨_, _, dX6_holds_14, amSite.P (amSiteGet ⟨_, rfl, by decide, Or.inl q1295⟩)⟩, ?_⟩
  exact fun _ h => absurd h List.not_mem_nil)
theorem goX6_holds {ret F} (hF : amCld cX6_holds kX6_holds (amLk rX6_holds) none 0 0 ret F) (n : Nat) {pc ls st h k z} (q : sX6_holds ret F n pc ls st h k z) : F pc ls st h k z := hF.1 n pc ls st h k z q
theorem metX6_holds (l : Launch) (G : amG) : amMet l G yX6_holds (ws_ yX6_holds cX6_holds 2 none) 1 0 0 tX6_holds := by
  refine amMet_of (cut := kX6_holds) (by decide +kernel) (evX6_holds l G) ?_
  intro as h K hT
  match as, hT with
  | [.ref a], ⟨e, hR, hK⟩ =>
  refine ⟨Nat.le_of_ble_eq_true rfl, fun F hF => ?_⟩
  show F 0 [.ref a, .retAddr 0] [] h 0 0
  obtain ⟨a, rfl⟩ : ∃ i : Nat, i = a := ⟨_, rfl⟩
  subst e
  have loop : ∀ t p m, p + t = 27 → (∀ w : Nat, w < p → m 142 w = h.2.1 125 w) → (∀ i : Nat, i ≠ 142 → m i = h.2.1 i) → F 2 [.ref 124, .int (nI p)] [] (amSI h m) 0 0 := by
    intro t
    induction t with
    | zero =>
      intro p m e1 i1 i2
      have e : p = 27 := by omega
      subst e
      refine goX6_holds hF 30 ?_
      simp (disch := omega) only [wX6_holds_0, uX6_holds_0, wX6_holds_1, wX6_holds_2, uX6_holds_2, wX6_holds_3, wX6_holds_5, wX6_holds_8, wX6_holds_9, wX6_holds_12, wX6_holds_13, wX6_holds_14, wX6_holds_17, wX6_holds_18, wX6_holds_19, wX6_holds_20, wX6_holds_23, wX6_holds_26, amSI_1, amSI_2, amSI_3, amSI_s, amU_at, amIsR_ref, amIsR_null, amIsR_rf, amRf_some, amRf_none, amClr_int, amClr_ref, amClr_null, amClr_long, amClr_ra, amClr_rf, amFit_int, amFit_oref, amFit_aref, amFit_onull, amFit_anull, amOptSome, amOptNone, List.cons_append, List.nil_append, true_and, and_true, true_implies, not_true_eq_false, not_false_eq_true, false_implies, and_self, Nat.add_zero, Nat.zero_add, ne_eq, Prod.mk.injEq, amC01_0, amC01_1, amC01_nb, amNb0, amNb1, amTcpI_d, Nat.reduceLeDiff, Nat.reduceAdd, Nat.reduceSub, Nat.reduceEqDiff, Nat.le_refl, amN0le, hR.s, hR.r, amLeI, amLtI, amEqI, amLe0, amGt0, amEq0, amNotPosI, amGe0, amVI, amCl_nI, amAdd, amSub, amMul]
      exact amRet.of (by decide) (by decide) (hK m i1 i2)
    | succ t ih =>
      intro p m e1 i1 i2
      have q : (27 ≤ p) = False := eq_false (by omega)
      have nx := ih (p + 1) (amU m 142 p (m 125 p)) (by omega) (fun w hw => by
        by_cases e : w = p
        · subst e
          simp (disch := omega) only [amU_at, amU_ne, amU_nj, amU_neR, up_ne, up_at, amSI_2]
          rw [i2 125 (by decide)]
        · simp (disch := omega) only [amU_at, amU_ne, amU_nj, amU_neR, up_ne, up_at, amSI_2]
          exact i1 w (by omega)) (fun i hi => by
        simp (disch := omega) only [amU_at, amU_ne, amU_nj, amU_neR, up_ne, up_at, amSI_2]
        exact i2 i hi)
      refine goX6_holds hF 30 ?_
      simp (disch := omega) only [wX6_holds_0, uX6_holds_0, wX6_holds_1, wX6_holds_2, uX6_holds_2, wX6_holds_3, wX6_holds_5, wX6_holds_8, wX6_holds_9, wX6_holds_12, wX6_holds_13, wX6_holds_14, wX6_holds_17, wX6_holds_18, wX6_holds_19, wX6_holds_20, wX6_holds_23, wX6_holds_26, amSI_1, amSI_2, amSI_3, amSI_s, amU_at, amIsR_ref, amIsR_null, amIsR_rf, amRf_some, amRf_none, amClr_int, amClr_ref, amClr_null, amClr_long, amClr_ra, amClr_rf, amFit_int, amFit_oref, amFit_aref, amFit_onull, amFit_anull, amOptSome, amOptNone, List.cons_append, List.nil_append, true_and, and_true, true_implies, not_true_eq_false, not_false_eq_true, false_implies, and_self, Nat.add_zero, Nat.zero_add, ne_eq, Prod.mk.injEq, amC01_0, amC01_1, amC01_nb, amNb0, amNb1, amTcpI_d, Nat.reduceLeDiff, Nat.reduceAdd, Nat.reduceSub, Nat.reduceEqDiff, Nat.le_refl, amN0le, hR.s, hR.r, amLeI, amLtI, amEqI, amLe0, amGt0, amEq0, amNotPosI, amGe0, amVI, amCl_nI, amAdd, amSub, amMul, q]
      exact nx
  refine goX6_holds hF 30 ?_
  simp (disch := omega) only [wX6_holds_0, uX6_holds_0, wX6_holds_1, wX6_holds_2, uX6_holds_2, wX6_holds_3, wX6_holds_5, wX6_holds_8, wX6_holds_9, wX6_holds_12, wX6_holds_13, wX6_holds_14, wX6_holds_17, wX6_holds_18, wX6_holds_19, wX6_holds_20, wX6_holds_23, wX6_holds_26, amSI_1, amSI_2, amSI_3, amSI_s, amU_at, amIsR_ref, amIsR_null, amIsR_rf, amRf_some, amRf_none, amClr_int, amClr_ref, amClr_null, amClr_long, amClr_ra, amClr_rf, amFit_int, amFit_oref, amFit_aref, amFit_onull, amFit_anull, amOptSome, amOptNone, List.cons_append, List.nil_append, true_and, and_true, true_implies, not_true_eq_false, not_false_eq_true, false_implies, and_self, Nat.add_zero, Nat.zero_add, ne_eq, Prod.mk.injEq, amC01_0, amC01_1, amC01_nb, amNb0, amNb1, amTcpI_d, Nat.reduceLeDiff, Nat.reduceAdd, Nat.reduceSub, Nat.reduceEqDiff, Nat.le_refl, amN0le, hR.s, hR.r]
  exact loop 27 0 h.2.1 (by omega) (fun w hw => absurd hw (Nat.not_lt_zero w)) (fun i _ => rfl)
theorem tX6_holds_d {a : Nat} {h : amH} {K : Option Value → amH → Prop} : tX6_holds [.ref a] h K = (a = (124 : Nat) ∧ mdAt h ∧ ∀ m', (∀ p : Nat, p < 27 → m' 142 p = h.2.1 125 p) → (∀ i : Nat, i ≠ 142 → m' i = h.2.1 i) → K none (amSI h m')) := rfl
/-- a row noted -/
def tX6_notes : amT := fun as h K => match as with
  | [.ref a] => ∃ (S : HS) (U : List HS), a = (124 : Nat) ∧ mdAt h ∧ RwIs h.2.1 142 0 S ∧ UnM h.2.1 U ∧ ∀ m', UnM m' (noteU U S) → (∀ i : Nat, i ≠ 124 → i ≠ 126 → m' i = h.2.1 i) → (∀ j : Nat, j ≠ 2 → m' 124 j = h.2.1 124 j) → K none (amSI h m')
  | _ => False
theorem tail_getD {l : List HS} {i : Nat} : l.tail.getD i HS0 = l.getD (i + 1) HS0 := by
  cases l with
  | nil => rfl
  | cons x t => rfl
/-! ReadingStagesModel.notes()V -/
def kX6_notes : Nat → Bool := fun pc => pc == 11 || pc == 44 || pc == 46
def rX6_notes : List (Nat × amS) := [(1, 1, 0, 0, amTget 6 2), (19, 1, 0, 0, amTget 6 1), (24, 1, 0, 0, amTget 6 1), (41, 2, 0, 0, amTput 6 2), (53, 1, 0, 0, amTget 6 1), (59, 1, 0, 0, amTget 6 2), (66, 1, 0, 0, amTget 6 24), (80, 1, 0, 0, amTget 6 2), (85, 2, 0, 0, amTput 6 2)]
def eX6_notes (ret : Option Value → amH → Nat → Nat → Prop) (F : amX) : Nat → amX := amWp cX6_notes kX6_notes (amLk rX6_notes) none 0 0 ret F
def sX6_notes (ret : Option Value → amH → Nat → Nat → Prop) (F : amX) : Nat → amX := amWs cX6_notes kX6_notes (amLk rX6_notes) none 0 0 ret F
theorem wX6_notes_0 {ret F n h} {v0 v1 st} : eX6_notes ret F (n + 1) 0 [v0, v1] (st) h 0 0 = (amIsR v0 ∧ eX6_notes ret F n 1 [v0, v1] (v0 :: st) h 0 0) := (amWp_dec rfl dX6_notes_0 rfl).trans rfl
theorem uX6_notes_0 {ret F n h} {v0 v1 st} : sX6_notes ret F n 0 [v0, v1] (st) h 0 0 = (amIsR v0 ∧ eX6_notes ret F n 1 [v0, v1] (v0 :: st) h 0 0) := (amWs_dec dX6_notes_0 rfl).trans rfl
theorem wX6_notes_1 {ret F n h} {v0 v1 a} : eX6_notes ret F (n + 1) 1 [v0, v1] (.ref a :: []) h 0 0 = (h.1 a = (0, 6) ∧ eX6_notes ret F n 4 [v0, v1] (.int (h.2.1 a 2) :: []) h 0 0) := (amWp_dec rfl dX6_notes_1 rfl).trans (amS4 (Nat.le_of_ble_eq_true rfl) (Nat.le_of_ble_eq_true rfl) (Nat.le_of_ble_eq_true rfl) (Nat.le_of_ble_eq_true rfl))
theorem wX6_notes_4 {ret F n h} {v0 v1 st} : eX6_notes ret F (n + 1) 4 [v0, v1] (st) h 0 0 = (eX6_notes ret F n 6 [v0, v1] (.int (nI 6) :: st) h 0 0) := (amWp_dec rfl dX6_notes_4 rfl).trans rfl
theorem wX6_notes_6 {ret F n h} {v0 v1 st y x} : eX6_notes ret F (n + 1) 6 [v0, v1] (.int y :: .int x :: st) h 0 0 = ((¬ x = y → eX6_notes ret F n 44 [v0, v1] (st) h 0 0) ∧ (x = y → eX6_notes ret F n 9 [v0, v1] (st) h 0 0)) := (amWp_dec rfl dX6_notes_6 rfl).trans rfl
theorem wX6_notes_9 {ret F n h} {v0 v1 st} : eX6_notes ret F (n + 1) 9 [v0, v1] (st) h 0 0 = (eX6_notes ret F n 10 [v0, v1] (.int (nI 0) :: st) h 0 0) := (amWp_dec rfl dX6_notes_9 rfl).trans rfl
theorem wX6_notes_10 {ret F n h} {v0 v1 st x} : eX6_notes ret F (n + 1) 10 [v0, v1] (.int x :: st) h 0 0 = (eX6_notes ret F n 11 [amClr v0, .int x] (st) h 0 0) := (amWp_dec rfl dX6_notes_10 rfl).trans (amTrue (Nat.le_of_ble_eq_true rfl))
theorem wX6_notes_11 {ret F n ls st h k z} : eX6_notes ret F (n + 1) 11 ls st h k z = F 11 ls st h k z := amWp_cut rfl
theorem uX6_notes_11 {ret F n h} {v0 st x} : sX6_notes ret F n 11 [v0, .int x] (st) h 0 0 = (eX6_notes ret F n 12 [v0, .int x] (.int x :: st) h 0 0) := (amWs_dec dX6_notes_11 rfl).trans rfl
theorem wX6_notes_12 {ret F n h} {v0 v1 st} : eX6_notes ret F (n + 1) 12 [v0, v1] (st) h 0 0 = (eX6_notes ret F n 15 [v0, v1] (.int (nI 135) :: st) h 0 0) := (amWp_dec rfl dX6_notes_12 rfl).trans rfl
theorem wX6_notes_15 {ret F n h} {v0 v1 st y x} : eX6_notes ret F (n + 1) 15 [v0, v1] (.int y :: .int x :: st) h 0 0 = ((y ≤ x → eX6_notes ret F n 39 [v0, v1] (st) h 0 0) ∧ (¬ y ≤ x → eX6_notes ret F n 18 [v0, v1] (st) h 0 0)) := (amWp_dec rfl dX6_notes_15 rfl).trans rfl
theorem wX6_notes_18 {ret F n h} {v0 v1 st} : eX6_notes ret F (n + 1) 18 [v0, v1] (st) h 0 0 = (amIsR v0 ∧ eX6_notes ret F n 19 [v0, v1] (v0 :: st) h 0 0) := (amWp_dec rfl dX6_notes_18 rfl).trans rfl
theorem wX6_notes_19 {ret F n h} {v0 v1 a} : eX6_notes ret F (n + 1) 19 [v0, v1] (.ref a :: []) h 0 0 = (h.1 a = (0, 6) ∧ eX6_notes ret F n 22 [v0, v1] (va_rf (h.2.2.2.1 a 1) :: []) h 0 0) := (amWp_dec rfl dX6_notes_19 rfl).trans (amS4 (Nat.le_of_ble_eq_true rfl) (Nat.le_of_ble_eq_true rfl) (Nat.le_of_ble_eq_true rfl) (Nat.le_of_ble_eq_true rfl))
theorem wX6_notes_22 {ret F n h} {v0 st x} : eX6_notes ret F (n + 1) 22 [v0, .int x] (st) h 0 0 = (eX6_notes ret F n 23 [v0, .int x] (.int x :: st) h 0 0) := (amWp_dec rfl dX6_notes_22 rfl).trans rfl
theorem wX6_notes_23 {ret F n h} {v0 v1 st} : eX6_notes ret F (n + 1) 23 [v0, v1] (st) h 0 0 = (amIsR v0 ∧ eX6_notes ret F n 24 [v0, v1] (v0 :: st) h 0 0) := (amWp_dec rfl dX6_notes_23 rfl).trans rfl
theorem wX6_notes_24 {ret F n h} {v0 v1 r0 r1 a} : eX6_notes ret F (n + 1) 24 [v0, v1] (.ref a :: r0 :: r1 :: []) h 0 0 = (h.1 a = (0, 6) ∧ eX6_notes ret F n 27 [v0, v1] (va_rf (h.2.2.2.1 a 1) :: r0 :: r1 :: []) h 0 0) := (amWp_dec rfl dX6_notes_24 rfl).trans (amS4 (Nat.le_of_ble_eq_true rfl) (Nat.le_of_ble_eq_true rfl) (Nat.le_of_ble_eq_true rfl) (Nat.le_of_ble_eq_true rfl))
theorem wX6_notes_27 {ret F n h} {v0 st x} : eX6_notes ret F (n + 1) 27 [v0, .int x] (st) h 0 0 = (eX6_notes ret F n 28 [v0, .int x] (.int x :: st) h 0 0) := (amWp_dec rfl dX6_notes_27 rfl).trans rfl
theorem wX6_notes_28 {ret F n h} {v0 v1 st} : eX6_notes ret F (n + 1) 28 [v0, v1] (st) h 0 0 = (eX6_notes ret F n 30 [v0, v1] (.int (nI 27) :: st) h 0 0) := (amWp_dec rfl dX6_notes_28 rfl).trans rfl
theorem wX6_notes_30 {ret F n h} {v0 v1 st y x} : eX6_notes ret F (n + 1) 30 [v0, v1] (.int y :: .int x :: st) h 0 0 = (eX6_notes ret F n 31 [v0, v1] (.int (x + y) :: st) h 0 0) := (amWp_dec rfl dX6_notes_30 rfl).trans rfl
theorem wX6_notes_31 {ret F n h} {v0 v1 st x a} : eX6_notes ret F (n + 1) 31 [v0, v1] (.int x :: .ref a :: st) h 0 0 = ((h.1 a).1 = 1 ∧ vp_in x (h.1 a).2 ∧ eX6_notes ret F n 32 [v0, v1] (.int (h.2.1 a x.toNatClampNeg) :: st) h 0 0) := (amWp_dec rfl dX6_notes_31 rfl).trans rfl
theorem wX6_notes_32 {ret F n h} {v0 v1 st y x a} : eX6_notes ret F (n + 1) 32 [v0, v1] (.int y :: .int x :: .ref a :: st) h 0 0 = ((h.1 a).1 = 1 ∧ vp_in x (h.1 a).2 ∧ amN0 ≤ a ∧ eX6_notes ret F n 33 [v0, v1] (st) (amSI h (amU h.2.1 a x.toNatClampNeg y)) 0 0) := (amWp_dec rfl dX6_notes_32 rfl).trans rfl
theorem wX6_notes_33 {ret F n h} {v0 st x} : eX6_notes ret F (n + 1) 33 [v0, .int x] (st) h 0 0 = (eX6_notes ret F n 36 [amClr v0, .int (x + nI 1)] (st) h 0 0) := (amWp_dec rfl dX6_notes_33 rfl).trans rfl
theorem wX6_notes_36 {ret F n h} {v0 v1 st} : eX6_notes ret F (n + 1) 36 [v0, v1] (st) h 0 0 = (eX6_notes ret F n 11 [v0, v1] (st) h 0 0) := (amWp_dec rfl dX6_notes_36 rfl).trans rfl
theorem wX6_notes_39 {ret F n h} {v0 v1 st} : eX6_notes ret F (n + 1) 39 [v0, v1] (st) h 0 0 = (amIsR v0 ∧ eX6_notes ret F n 40 [v0, v1] (v0 :: st) h 0 0) := (amWp_dec rfl dX6_notes_39 rfl).trans rfl
theorem wX6_notes_40 {ret F n h} {v0 v1 st} : eX6_notes ret F (n + 1) 40 [v0, v1] (st) h 0 0 = (eX6_notes ret F n 41 [v0, v1] (.int (nI 5) :: st) h 0 0) := (amWp_dec rfl dX6_notes_40 rfl).trans rfl
theorem wX6_notes_41 {ret F n h} {v0 v1 x a} : eX6_notes ret F (n + 1) 41 [v0, v1] (.int x :: .ref a :: []) h 0 0 = (h.1 a = (0, 6) ∧ amN0 ≤ a ∧ amFit .int (.int x) ∧ eX6_notes ret F n 44 [v0, v1] ([]) (amSI h (amU h.2.1 a 2 x)) 0 0) := (amWp_dec rfl dX6_notes_41 rfl).trans (amS4 (Nat.le_of_ble_eq_true rfl) (Nat.le_of_ble_eq_true rfl) (Nat.le_of_ble_eq_true rfl) (Nat.le_of_ble_eq_true rfl))
theorem wX6_notes_44 {ret F n ls st h k z} : eX6_notes ret F (n + 1) 44 ls st h k z = F 44 ls st h k z := amWp_cut rfl
theorem uX6_notes_44 {ret F n h} {v0 v1 st} : sX6_notes ret F n 44 [v0, v1] (st) h 0 0 = (eX6_notes ret F n 45 [v0, v1] (.int (nI 0) :: st) h 0 0) := (amWs_dec dX6_notes_44 rfl).trans rfl
theorem wX6_notes_45 {ret F n h} {v0 v1 st x} : eX6_notes ret F (n + 1) 45 [v0, v1] (.int x :: st) h 0 0 = (eX6_notes ret F n 46 [amClr v0, .int x] (st) h 0 0) := (amWp_dec rfl dX6_notes_45 rfl).trans (amTrue (Nat.le_of_ble_eq_true rfl))
theorem wX6_notes_46 {ret F n ls st h k z} : eX6_notes ret F (n + 1) 46 ls st h k z = F 46 ls st h k z := amWp_cut rfl
theorem uX6_notes_46 {ret F n h} {v0 st x} : sX6_notes ret F n 46 [v0, .int x] (st) h 0 0 = (eX6_notes ret F n 47 [v0, .int x] (.int x :: st) h 0 0) := (amWs_dec dX6_notes_46 rfl).trans rfl
theorem wX6_notes_47 {ret F n h} {v0 v1 st} : eX6_notes ret F (n + 1) 47 [v0, v1] (st) h 0 0 = (eX6_notes ret F n 49 [v0, v1] (.int (nI 27) :: st) h 0 0) := (amWp_dec rfl dX6_notes_47 rfl).trans rfl
theorem wX6_notes_49 {ret F n h} {v0 v1 st y x} : eX6_notes ret F (n + 1) 49 [v0, v1] (.int y :: .int x :: st) h 0 0 = ((y ≤ x → eX6_notes ret F n 78 [v0, v1] (st) h 0 0) ∧ (¬ y ≤ x → eX6_notes ret F n 52 [v0, v1] (st) h 0 0)) := (amWp_dec rfl dX6_notes_49 rfl).trans rfl
theorem wX6_notes_52 {ret F n h} {v0 v1 st} : eX6_notes ret F (n + 1) 52 [v0, v1] (st) h 0 0 = (amIsR v0 ∧ eX6_notes ret F n 53 [v0, v1] (v0 :: st) h 0 0) := (amWp_dec rfl dX6_notes_52 rfl).trans rfl
theorem wX6_notes_53 {ret F n h} {v0 v1 a} : eX6_notes ret F (n + 1) 53 [v0, v1] (.ref a :: []) h 0 0 = (h.1 a = (0, 6) ∧ eX6_notes ret F n 56 [v0, v1] (va_rf (h.2.2.2.1 a 1) :: []) h 0 0) := (amWp_dec rfl dX6_notes_53 rfl).trans (amS4 (Nat.le_of_ble_eq_true rfl) (Nat.le_of_ble_eq_true rfl) (Nat.le_of_ble_eq_true rfl) (Nat.le_of_ble_eq_true rfl))
theorem wX6_notes_56 {ret F n h} {v0 v1 st} : eX6_notes ret F (n + 1) 56 [v0, v1] (st) h 0 0 = (eX6_notes ret F n 58 [v0, v1] (.int (nI 27) :: st) h 0 0) := (amWp_dec rfl dX6_notes_56 rfl).trans rfl
theorem wX6_notes_58 {ret F n h} {v0 v1 st} : eX6_notes ret F (n + 1) 58 [v0, v1] (st) h 0 0 = (amIsR v0 ∧ eX6_notes ret F n 59 [v0, v1] (v0 :: st) h 0 0) := (amWp_dec rfl dX6_notes_58 rfl).trans rfl
theorem wX6_notes_59 {ret F n h} {v0 v1 r0 r1 a} : eX6_notes ret F (n + 1) 59 [v0, v1] (.ref a :: r0 :: r1 :: []) h 0 0 = (h.1 a = (0, 6) ∧ eX6_notes ret F n 62 [v0, v1] (.int (h.2.1 a 2) :: r0 :: r1 :: []) h 0 0) := (amWp_dec rfl dX6_notes_59 rfl).trans (amS4 (Nat.le_of_ble_eq_true rfl) (Nat.le_of_ble_eq_true rfl) (Nat.le_of_ble_eq_true rfl) (Nat.le_of_ble_eq_true rfl))
theorem wX6_notes_62 {ret F n h} {v0 v1 st y x} : eX6_notes ret F (n + 1) 62 [v0, v1] (.int y :: .int x :: st) h 0 0 = (eX6_notes ret F n 63 [v0, v1] (.int (x * y) :: st) h 0 0) := (amWp_dec rfl dX6_notes_62 rfl).trans rfl
theorem wX6_notes_63 {ret F n h} {v0 st x} : eX6_notes ret F (n + 1) 63 [v0, .int x] (st) h 0 0 = (eX6_notes ret F n 64 [v0, .int x] (.int x :: st) h 0 0) := (amWp_dec rfl dX6_notes_63 rfl).trans rfl
theorem wX6_notes_64 {ret F n h} {v0 v1 st y x} : eX6_notes ret F (n + 1) 64 [v0, v1] (.int y :: .int x :: st) h 0 0 = (eX6_notes ret F n 65 [v0, v1] (.int (x + y) :: st) h 0 0) := (amWp_dec rfl dX6_notes_64 rfl).trans rfl
theorem wX6_notes_65 {ret F n h} {v0 v1 st} : eX6_notes ret F (n + 1) 65 [v0, v1] (st) h 0 0 = (amIsR v0 ∧ eX6_notes ret F n 66 [v0, v1] (v0 :: st) h 0 0) := (amWp_dec rfl dX6_notes_65 rfl).trans rfl
theorem wX6_notes_66 {ret F n h} {v0 v1 r0 r1 a} : eX6_notes ret F (n + 1) 66 [v0, v1] (.ref a :: r0 :: r1 :: []) h 0 0 = (h.1 a = (0, 6) ∧ eX6_notes ret F n 69 [v0, v1] (va_rf (h.2.2.2.1 a 24) :: r0 :: r1 :: []) h 0 0) := (amWp_dec rfl dX6_notes_66 rfl).trans (amS4 (Nat.le_of_ble_eq_true rfl) (Nat.le_of_ble_eq_true rfl) (Nat.le_of_ble_eq_true rfl) (Nat.le_of_ble_eq_true rfl))
theorem wX6_notes_69 {ret F n h} {v0 st x} : eX6_notes ret F (n + 1) 69 [v0, .int x] (st) h 0 0 = (eX6_notes ret F n 70 [v0, .int x] (.int x :: st) h 0 0) := (amWp_dec rfl dX6_notes_69 rfl).trans rfl
theorem wX6_notes_70 {ret F n h} {v0 v1 st x a} : eX6_notes ret F (n + 1) 70 [v0, v1] (.int x :: .ref a :: st) h 0 0 = ((h.1 a).1 = 1 ∧ vp_in x (h.1 a).2 ∧ eX6_notes ret F n 71 [v0, v1] (.int (h.2.1 a x.toNatClampNeg) :: st) h 0 0) := (amWp_dec rfl dX6_notes_70 rfl).trans rfl
theorem wX6_notes_71 {ret F n h} {v0 v1 st y x a} : eX6_notes ret F (n + 1) 71 [v0, v1] (.int y :: .int x :: .ref a :: st) h 0 0 = ((h.1 a).1 = 1 ∧ vp_in x (h.1 a).2 ∧ amN0 ≤ a ∧ eX6_notes ret F n 72 [v0, v1] (st) (amSI h (amU h.2.1 a x.toNatClampNeg y)) 0 0) := (amWp_dec rfl dX6_notes_71 rfl).trans rfl
theorem wX6_notes_72 {ret F n h} {v0 st x} : eX6_notes ret F (n + 1) 72 [v0, .int x] (st) h 0 0 = (eX6_notes ret F n 75 [amClr v0, .int (x + nI 1)] (st) h 0 0) := (amWp_dec rfl dX6_notes_72 rfl).trans rfl
theorem wX6_notes_75 {ret F n h} {v0 v1 st} : eX6_notes ret F (n + 1) 75 [v0, v1] (st) h 0 0 = (eX6_notes ret F n 46 [v0, v1] (st) h 0 0) := (amWp_dec rfl dX6_notes_75 rfl).trans rfl
theorem wX6_notes_78 {ret F n h} {v0 v1 st} : eX6_notes ret F (n + 1) 78 [v0, v1] (st) h 0 0 = (amIsR v0 ∧ eX6_notes ret F n 79 [v0, v1] (v0 :: st) h 0 0) := (amWp_dec rfl dX6_notes_78 rfl).trans rfl
theorem wX6_notes_79 {ret F n h} {v0 v1 st b} : eX6_notes ret F (n + 1) 79 [v0, v1] (.ref b :: st) h 0 0 = (eX6_notes ret F n 80 [v0, v1] (.ref b :: .ref b :: st) h 0 0) := (amWp_dec rfl dX6_notes_79 rfl).trans (amTrue rfl)
theorem wX6_notes_80 {ret F n h} {v0 v1 r0 a} : eX6_notes ret F (n + 1) 80 [v0, v1] (.ref a :: r0 :: []) h 0 0 = (h.1 a = (0, 6) ∧ eX6_notes ret F n 83 [v0, v1] (.int (h.2.1 a 2) :: r0 :: []) h 0 0) := (amWp_dec rfl dX6_notes_80 rfl).trans (amS4 (Nat.le_of_ble_eq_true rfl) (Nat.le_of_ble_eq_true rfl) (Nat.le_of_ble_eq_true rfl) (Nat.le_of_ble_eq_true rfl))
theorem wX6_notes_83 {ret F n h} {v0 v1 st} : eX6_notes ret F (n + 1) 83 [v0, v1] (st) h 0 0 = (eX6_notes ret F n 84 [v0, v1] (.int (nI 1) :: st) h 0 0) := (amWp_dec rfl dX6_notes_83 rfl).trans rfl
theorem wX6_notes_84 {ret F n h} {v0 v1 st y x} : eX6_notes ret F (n + 1) 84 [v0, v1] (.int y :: .int x :: st) h 0 0 = (eX6_notes ret F n 85 [v0, v1] (.int (x + y) :: st) h 0 0) := (amWp_dec rfl dX6_notes_84 rfl).trans rfl
theorem wX6_notes_85 {ret F n h} {v0 v1 x a} : eX6_notes ret F (n + 1) 85 [v0, v1] (.int x :: .ref a :: []) h 0 0 = (h.1 a = (0, 6) ∧ amN0 ≤ a ∧ amFit .int (.int x) ∧ eX6_notes ret F n 88 [v0, v1] ([]) (amSI h (amU h.2.1 a 2 x)) 0 0) := (amWp_dec rfl dX6_notes_85 rfl).trans (amS4 (Nat.le_of_ble_eq_true rfl) (Nat.le_of_ble_eq_true rfl) (Nat.le_of_ble_eq_true rfl) (Nat.le_of_ble_eq_true rfl))
theorem wX6_notes_88 {ret F n h} {v0 v1} : eX6_notes ret F (n + 1) 88 [v0, v1] ([]) h 0 0 = (ret none h 0 0) := (amWp_dec rfl dX6_notes_88 rfl).trans (amTrue rfl)
theorem evX6_notes (l : Launch) (G : amG) : ∀ pc S i sz, amLk rX6_notes pc = some S → decode cX6_notes pc = .ok (i, sz) → amSiteP pc G l yX6_notes.cls yX6_notes.name yX6_notes.desc (amRm 1 0 0) i sz S.1 S.2.1 S.2.2.1 S.2.2.2 := amLk_ok (by
  refine List.forall_mem_cons.mpr ⟨⟨_, _, dX6_notes_1, amSite.P (amSiteGet ⟨_, rfl, by decide, Or.inl q1297⟩)⟩, ?_⟩
  refine List.forall_mem_cons.mpr ⟨⟨_, _, dX6_notes_19, amSite.P (amSiteGet ⟨_, rfl, by decide, Or.inl q1296⟩)⟩, ?_⟩
  refine List.forall_mem_cons.mpr ⟨⟨_, _, dX6_notes_24, amSite.P (amSiteGet ⟨_, rfl, by decide, Or.inl q1296⟩)⟩, ?_⟩
  refine List.forall_mem_cons.mpr ⟨⟨_, _, dX6_notes_41, amSite.P (amSitePut ⟨_, rfl, by decide, Or.inl q1297⟩ (fun q h => by cases h; rfl))⟩, ?_⟩
  refine List.forall_mem_cons.mpr ⟨⟨_, _, dX6_notes_53, amSite.P (amSiteGet ⟨_, rfl, by decide, Or.inl q1296⟩)⟩, ?_⟩
  refine List.forall_mem_cons.mpr ⟨⟨_, _, dX6_notes_59, amSite.P (amSiteGet ⟨_, rfl, by decide, Or.inl q1297⟩)⟩, ?_⟩
  refine List.forall_mem_cons.mpr ⟨⟨_, _, dX6_notes_66, amSite.P (amSiteGet ⟨_, rfl, by decide, Or.inl q1319⟩)⟩, ?_⟩
  refine List.forall_mem_cons.mpr ⟨⟨_, _, dX6_notes_80, amSite.P (amSiteGet ⟨_, rfl, by decide, Or.inl q1297⟩)⟩, ?_⟩
  refine List.forall_mem_cons.mpr ⟨⟨_, _, dX6_notes_85, amSite.P (amSitePut ⟨_, rfl, by decide, Or.inl q1297⟩ (fun q h => by cases h; rfl))⟩, ?_⟩
  exact fun _ h => absurd h List.not_mem_nil)
theorem goX6_notes {ret F} (hF : amCld cX6_notes kX6_notes (amLk rX6_notes) none 0 0 ret F) (n : Nat) {pc ls st h k z} (q : sX6_notes ret F n pc ls st h k z) : F pc ls st h k z := hF.1 n pc ls st h k z q
theorem metX6_notes (l : Launch) (G : amG) : amMet l G yX6_notes (ws_ yX6_notes cX6_notes 2 none) 1 0 0 tX6_notes := by
  refine amMet_of (cut := kX6_notes) (by decide +kernel) (evX6_notes l G) ?_
  intro as h K hT
  match as, hT with
  | [.ref a], ⟨S, U, e, hR, h1, ⟨u6, un, ur⟩, hK⟩ =>
  refine ⟨Nat.le_of_ble_eq_true rfl, fun F hF => ?_⟩
  show F 0 [.ref a, .retAddr 0] [] h 0 0
  obtain ⟨a, rfl⟩ : ∃ i : Nat, i = a := ⟨_, rfl⟩
  subst e
  -- the copy
  have copy : ∀ (V : List HS) m0, V.length < 6 → noteU U S = V ++ [S] → (∀ i : Nat, i ≠ 124 → i ≠ 126 → m0 i = h.2.1 i) → (∀ j : Nat, j ≠ 2 → m0 124 j = h.2.1 124 j) → m0 124 2 = nI V.length → (∀ k, k < V.length → RwIs m0 126 (27 * k) (V.getD k HS0)) → ∀ t p m, p + t = 27 → (∀ w : Nat, w < p → m 126 (27 * V.length + w) = h.2.1 142 w) → (∀ w : Nat, w < 27 * V.length → m 126 w = m0 126 w) → (∀ i : Nat, i ≠ 126 → m i = m0 i) → F 46 [.ref 124, .int (nI p)] [] (amSI h m) 0 0 := by
    intro V m0 v6 vn g1 g2 g3 g4 t
    induction t with
    | zero =>
      intro p m e1 i1 i2 i3
      have e : p = 27 := by omega
      subst e
      have m2 : m 124 2 = nI V.length := by rw [i3 124 (by decide)]; exact g3
      refine goX6_notes hF 40 ?_
      simp (disch := omega) only [wX6_notes_0, uX6_notes_0, wX6_notes_1, wX6_notes_4, wX6_notes_6, wX6_notes_9, wX6_notes_10, wX6_notes_11, uX6_notes_11, wX6_notes_12, wX6_notes_15, wX6_notes_18, wX6_notes_19, wX6_notes_22, wX6_notes_23, wX6_notes_24, wX6_notes_27, wX6_notes_28, wX6_notes_30, wX6_notes_31, wX6_notes_32, wX6_notes_33, wX6_notes_36, wX6_notes_39, wX6_notes_40, wX6_notes_41, wX6_notes_44, uX6_notes_44, wX6_notes_45, wX6_notes_46, uX6_notes_46, wX6_notes_47, wX6_notes_49, wX6_notes_52, wX6_notes_53, wX6_notes_56, wX6_notes_58, wX6_notes_59, wX6_notes_62, wX6_notes_63, wX6_notes_64, wX6_notes_65, wX6_notes_66, wX6_notes_69, wX6_notes_70, wX6_notes_71, wX6_notes_72, wX6_notes_75, wX6_notes_78, wX6_notes_79, wX6_notes_80, wX6_notes_83, wX6_notes_84, wX6_notes_85, wX6_notes_88, amSI_1, amSI_2, amSI_3, amSI_s, amU_at, amIsR_ref, amIsR_null, amIsR_rf, amRf_some, amRf_none, amClr_int, amClr_ref, amClr_null, amClr_long, amClr_ra, amClr_rf, amFit_int, amFit_oref, amFit_aref, amFit_onull, amFit_anull, amOptSome, amOptNone, List.cons_append, List.nil_append, true_and, and_true, true_implies, not_true_eq_false, not_false_eq_true, false_implies, and_self, Nat.add_zero, Nat.zero_add, ne_eq, Prod.mk.injEq, amC01_0, amC01_1, amC01_nb, amNb0, amNb1, amTcpI_d, Nat.reduceLeDiff, Nat.reduceAdd, Nat.reduceSub, Nat.reduceEqDiff, Nat.le_refl, amN0le, hR.s, hR.r, amLeI, amLtI, amEqI, amLe0, amGt0, amEq0, amNotPosI, amGe0, amVI, amCl_nI, amAdd, amSub, amMul, m2]
      refine amRet.of (by decide) (by decide) (hK _ ⟨?_, ?_, fun k hk => ?_⟩ (fun i a1 a2 => ?_) (fun j hj => ?_))
      · rw [vn, List.length_append, List.length_singleton]; omega
      · rw [vn, List.length_append, List.length_singleton]
        simp (disch := omega) only [amU_at, amU_ne, amU_nj, amU_neR, up_ne, up_at, amSI_2]
      · rw [vn] at hk ⊢
        rw [List.length_append, List.length_singleton] at hk
        rw [appS_getD]
        by_cases y : k < V.length
        · rw [if_pos y]
          refine (g4 k y).copy (fun q hq => ?_)
          simp (disch := omega) only [amU_at, amU_ne, amU_nj, amU_neR, up_ne, up_at, amSI_2]
          exact i2 _ (by omega)
        · have : k = V.length := by omega
          subst this
          rw [if_neg y, if_pos rfl]
          refine h1.copy (fun q hq => ?_)
          simp (disch := omega) only [amU_at, amU_ne, amU_nj, amU_neR, up_ne, up_at, amSI_2]
          rw [Nat.zero_add]
          exact i1 q hq
      · simp (disch := omega) only [amU_at, amU_ne, amU_nj, amU_neR, up_ne, up_at, amSI_2]
        rw [i3 i a2]
        exact g1 i a1 a2
      · simp (disch := omega) only [amU_at, amU_ne, amU_nj, amU_neR, up_ne, up_at, amSI_2]
        rw [i3 124 (by decide)]
        exact g2 j hj
    | succ t ih =>
      intro p m e1 i1 i2 i3
      have q : (27 ≤ p) = False := eq_false (by omega)
      have m2 : m 124 2 = nI V.length := by rw [i3 124 (by decide)]; exact g3
      have nx := ih (p + 1) (amU m 126 (27 * V.length + p) (m 142 p)) (by omega) (fun w hw => by
        by_cases e : w = p
        · subst e
          simp (disch := omega) only [amU_at, amU_ne, amU_nj, amU_neR, up_ne, up_at, amSI_2]
          rw [i3 142 (by decide), g1 142 (by decide) (by decide)]
        · simp (disch := omega) only [amU_at, amU_ne, amU_nj, amU_neR, up_ne, up_at, amSI_2]
          exact i1 w (by omega)) (fun w hw => by
        simp (disch := omega) only [amU_at, amU_ne, amU_nj, amU_neR, up_ne, up_at, amSI_2]
        exact i2 w hw) (fun i hi => by
        simp (disch := omega) only [amU_at, amU_ne, amU_nj, amU_neR, up_ne, up_at, amSI_2]
        exact i3 i hi)
      have ml : nI 27 * nI V.length = nI (27 * V.length) := amMul _ _
      refine goX6_notes hF 40 ?_
      simp (disch := omega) only [wX6_notes_0, uX6_notes_0, wX6_notes_1, wX6_notes_4, wX6_notes_6, wX6_notes_9, wX6_notes_10, wX6_notes_11, uX6_notes_11, wX6_notes_12, wX6_notes_15, wX6_notes_18, wX6_notes_19, wX6_notes_22, wX6_notes_23, wX6_notes_24, wX6_notes_27, wX6_notes_28, wX6_notes_30, wX6_notes_31, wX6_notes_32, wX6_notes_33, wX6_notes_36, wX6_notes_39, wX6_notes_40, wX6_notes_41, wX6_notes_44, uX6_notes_44, wX6_notes_45, wX6_notes_46, uX6_notes_46, wX6_notes_47, wX6_notes_49, wX6_notes_52, wX6_notes_53, wX6_notes_56, wX6_notes_58, wX6_notes_59, wX6_notes_62, wX6_notes_63, wX6_notes_64, wX6_notes_65, wX6_notes_66, wX6_notes_69, wX6_notes_70, wX6_notes_71, wX6_notes_72, wX6_notes_75, wX6_notes_78, wX6_notes_79, wX6_notes_80, wX6_notes_83, wX6_notes_84, wX6_notes_85, wX6_notes_88, amSI_1, amSI_2, amSI_3, amSI_s, amU_at, amIsR_ref, amIsR_null, amIsR_rf, amRf_some, amRf_none, amClr_int, amClr_ref, amClr_null, amClr_long, amClr_ra, amClr_rf, amFit_int, amFit_oref, amFit_aref, amFit_onull, amFit_anull, amOptSome, amOptNone, List.cons_append, List.nil_append, true_and, and_true, true_implies, not_true_eq_false, not_false_eq_true, false_implies, and_self, Nat.add_zero, Nat.zero_add, ne_eq, Prod.mk.injEq, amC01_0, amC01_1, amC01_nb, amNb0, amNb1, amTcpI_d, Nat.reduceLeDiff, Nat.reduceAdd, Nat.reduceSub, Nat.reduceEqDiff, Nat.le_refl, amN0le, hR.s, hR.r, amLeI, amLtI, amEqI, amLe0, amGt0, amEq0, amNotPosI, amGe0, amVI, amCl_nI, amAdd, amSub, amMul, q, m2, ml]
      exact nx
  have start : ∀ (V : List HS) m0, V.length < 6 → noteU U S = V ++ [S] → (∀ i : Nat, i ≠ 124 → i ≠ 126 → m0 i = h.2.1 i) → (∀ j : Nat, j ≠ 2 → m0 124 j = h.2.1 124 j) → m0 124 2 = nI V.length → (∀ k, k < V.length → RwIs m0 126 (27 * k) (V.getD k HS0)) → ∀ v1, F 44 [.ref 124, v1] [] (amSI h m0) 0 0 := by
    intro V m0 v6 vn g1 g2 g3 g4 v1
    have := copy V m0 v6 vn g1 g2 g3 g4 27 0 m0 (by omega) (fun w hw => absurd hw (Nat.not_lt_zero w)) (fun w _ => rfl) (fun i _ => rfl)
    refine goX6_notes hF 40 ?_
    simp (disch := omega) only [wX6_notes_0, uX6_notes_0, wX6_notes_1, wX6_notes_4, wX6_notes_6, wX6_notes_9, wX6_notes_10, wX6_notes_11, uX6_notes_11, wX6_notes_12, wX6_notes_15, wX6_notes_18, wX6_notes_19, wX6_notes_22, wX6_notes_23, wX6_notes_24, wX6_notes_27, wX6_notes_28, wX6_notes_30, wX6_notes_31, wX6_notes_32, wX6_notes_33, wX6_notes_36, wX6_notes_39, wX6_notes_40, wX6_notes_41, wX6_notes_44, uX6_notes_44, wX6_notes_45, wX6_notes_46, uX6_notes_46, wX6_notes_47, wX6_notes_49, wX6_notes_52, wX6_notes_53, wX6_notes_56, wX6_notes_58, wX6_notes_59, wX6_notes_62, wX6_notes_63, wX6_notes_64, wX6_notes_65, wX6_notes_66, wX6_notes_69, wX6_notes_70, wX6_notes_71, wX6_notes_72, wX6_notes_75, wX6_notes_78, wX6_notes_79, wX6_notes_80, wX6_notes_83, wX6_notes_84, wX6_notes_85, wX6_notes_88, amSI_1, amSI_2, amSI_3, amSI_s, amU_at, amIsR_ref, amIsR_null, amIsR_rf, amRf_some, amRf_none, amClr_int, amClr_ref, amClr_null, amClr_long, amClr_ra, amClr_rf, amFit_int, amFit_oref, amFit_aref, amFit_onull, amFit_anull, amOptSome, amOptNone, List.cons_append, List.nil_append, true_and, and_true, true_implies, not_true_eq_false, not_false_eq_true, false_implies, and_self, Nat.add_zero, Nat.zero_add, ne_eq, Prod.mk.injEq, amC01_0, amC01_1, amC01_nb, amNb0, amNb1, amTcpI_d, Nat.reduceLeDiff, Nat.reduceAdd, Nat.reduceSub, Nat.reduceEqDiff, Nat.le_refl, amN0le, hR.s, hR.r]
    exact this
  by_cases z : U.length = 6
  · have shiftL : ∀ t p m, p + t = 135 → (∀ w : Nat, w < p → m 126 w = h.2.1 126 (w + 27)) → (∀ w : Nat, p ≤ w → m 126 w = h.2.1 126 w) → (∀ i : Nat, i ≠ 126 → m i = h.2.1 i) → F 11 [.ref 124, .int (nI p)] [] (amSI h m) 0 0 := by
      intro t
      induction t with
      | zero =>
        intro p m e1 i1 i2 i3
        have e : p = 135 := by omega
        subst e
        have lt : U.tail.length = 5 := by rw [List.length_tail, z]
        have nx := start U.tail (amU m 124 2 (nI 5)) (by omega) (by unfold noteU; rw [if_pos z]) (fun i a1 a2 => by
          simp (disch := omega) only [amU_at, amU_ne, amU_nj, amU_neR, up_ne, up_at, amSI_2]
          exact i3 i a2) (fun j hj => by
          simp (disch := omega) only [amU_at, amU_ne, amU_nj, amU_neR, up_ne, up_at, amSI_2]
          rw [i3 124 (by decide)]) (by rw [lt]; simp (disch := omega) only [amU_at, amU_ne, amU_nj, amU_neR, up_ne, up_at, amSI_2]) (fun k hk => by
          rw [tail_getD]
          refine (ur (k + 1) (by omega)).copy (fun q hq => ?_)
          simp (disch := omega) only [amU_at, amU_ne, amU_nj, amU_neR, up_ne, up_at, amSI_2]
          rw [i1 (27 * k + q) (by omega)]
          exact congrArg (h.2.1 126) (by omega)) (.int (nI 135))
        refine goX6_notes hF 40 ?_
        simp (disch := omega) only [wX6_notes_0, uX6_notes_0, wX6_notes_1, wX6_notes_4, wX6_notes_6, wX6_notes_9, wX6_notes_10, wX6_notes_11, uX6_notes_11, wX6_notes_12, wX6_notes_15, wX6_notes_18, wX6_notes_19, wX6_notes_22, wX6_notes_23, wX6_notes_24, wX6_notes_27, wX6_notes_28, wX6_notes_30, wX6_notes_31, wX6_notes_32, wX6_notes_33, wX6_notes_36, wX6_notes_39, wX6_notes_40, wX6_notes_41, wX6_notes_44, uX6_notes_44, wX6_notes_45, wX6_notes_46, uX6_notes_46, wX6_notes_47, wX6_notes_49, wX6_notes_52, wX6_notes_53, wX6_notes_56, wX6_notes_58, wX6_notes_59, wX6_notes_62, wX6_notes_63, wX6_notes_64, wX6_notes_65, wX6_notes_66, wX6_notes_69, wX6_notes_70, wX6_notes_71, wX6_notes_72, wX6_notes_75, wX6_notes_78, wX6_notes_79, wX6_notes_80, wX6_notes_83, wX6_notes_84, wX6_notes_85, wX6_notes_88, amSI_1, amSI_2, amSI_3, amSI_s, amU_at, amIsR_ref, amIsR_null, amIsR_rf, amRf_some, amRf_none, amClr_int, amClr_ref, amClr_null, amClr_long, amClr_ra, amClr_rf, amFit_int, amFit_oref, amFit_aref, amFit_onull, amFit_anull, amOptSome, amOptNone, List.cons_append, List.nil_append, true_and, and_true, true_implies, not_true_eq_false, not_false_eq_true, false_implies, and_self, Nat.add_zero, Nat.zero_add, ne_eq, Prod.mk.injEq, amC01_0, amC01_1, amC01_nb, amNb0, amNb1, amTcpI_d, Nat.reduceLeDiff, Nat.reduceAdd, Nat.reduceSub, Nat.reduceEqDiff, Nat.le_refl, amN0le, hR.s, hR.r, amLeI, amLtI, amEqI, amLe0, amGt0, amEq0, amNotPosI, amGe0, amVI, amCl_nI, amAdd, amSub, amMul]
        exact nx
      | succ t ih =>
        intro p m e1 i1 i2 i3
        have q : (135 ≤ p) = False := eq_false (by omega)
        have nx := ih (p + 1) (amU m 126 p (m 126 (p + 27))) (by omega) (fun w hw => by
          by_cases e : w = p
          · subst e
            simp (disch := omega) only [amU_at, amU_ne, amU_nj, amU_neR, up_ne, up_at, amSI_2]
            exact i2 _ (by omega)
          · simp (disch := omega) only [amU_at, amU_ne, amU_nj, amU_neR, up_ne, up_at, amSI_2]
            exact i1 w (by omega)) (fun w hw => by
          simp (disch := omega) only [amU_at, amU_ne, amU_nj, amU_neR, up_ne, up_at, amSI_2]
          exact i2 w (by omega)) (fun i hi => by
          simp (disch := omega) only [amU_at, amU_ne, amU_nj, amU_neR, up_ne, up_at, amSI_2]
          exact i3 i hi)
        refine goX6_notes hF 40 ?_
        simp (disch := omega) only [wX6_notes_0, uX6_notes_0, wX6_notes_1, wX6_notes_4, wX6_notes_6, wX6_notes_9, wX6_notes_10, wX6_notes_11, uX6_notes_11, wX6_notes_12, wX6_notes_15, wX6_notes_18, wX6_notes_19, wX6_notes_22, wX6_notes_23, wX6_notes_24, wX6_notes_27, wX6_notes_28, wX6_notes_30, wX6_notes_31, wX6_notes_32, wX6_notes_33, wX6_notes_36, wX6_notes_39, wX6_notes_40, wX6_notes_41, wX6_notes_44, uX6_notes_44, wX6_notes_45, wX6_notes_46, uX6_notes_46, wX6_notes_47, wX6_notes_49, wX6_notes_52, wX6_notes_53, wX6_notes_56, wX6_notes_58, wX6_notes_59, wX6_notes_62, wX6_notes_63, wX6_notes_64, wX6_notes_65, wX6_notes_66, wX6_notes_69, wX6_notes_70, wX6_notes_71, wX6_notes_72, wX6_notes_75, wX6_notes_78, wX6_notes_79, wX6_notes_80, wX6_notes_83, wX6_notes_84, wX6_notes_85, wX6_notes_88, amSI_1, amSI_2, amSI_3, amSI_s, amU_at, amIsR_ref, amIsR_null, amIsR_rf, amRf_some, amRf_none, amClr_int, amClr_ref, amClr_null, amClr_long, amClr_ra, amClr_rf, amFit_int, amFit_oref, amFit_aref, amFit_onull, amFit_anull, amOptSome, amOptNone, List.cons_append, List.nil_append, true_and, and_true, true_implies, not_true_eq_false, not_false_eq_true, false_implies, and_self, Nat.add_zero, Nat.zero_add, ne_eq, Prod.mk.injEq, amC01_0, amC01_1, amC01_nb, amNb0, amNb1, amTcpI_d, Nat.reduceLeDiff, Nat.reduceAdd, Nat.reduceSub, Nat.reduceEqDiff, Nat.le_refl, amN0le, hR.s, hR.r, amLeI, amLtI, amEqI, amLe0, amGt0, amEq0, amNotPosI, amGe0, amVI, amCl_nI, amAdd, amSub, amMul, q]
        exact nx
    have := shiftL 135 0 h.2.1 (by omega) (fun w hw => absurd hw (Nat.not_lt_zero w)) (fun w _ => rfl) (fun i _ => rfl)
    rw [z] at un
    refine goX6_notes hF 40 ?_
    simp (disch := omega) only [wX6_notes_0, uX6_notes_0, wX6_notes_1, wX6_notes_4, wX6_notes_6, wX6_notes_9, wX6_notes_10, wX6_notes_11, uX6_notes_11, wX6_notes_12, wX6_notes_15, wX6_notes_18, wX6_notes_19, wX6_notes_22, wX6_notes_23, wX6_notes_24, wX6_notes_27, wX6_notes_28, wX6_notes_30, wX6_notes_31, wX6_notes_32, wX6_notes_33, wX6_notes_36, wX6_notes_39, wX6_notes_40, wX6_notes_41, wX6_notes_44, uX6_notes_44, wX6_notes_45, wX6_notes_46, uX6_notes_46, wX6_notes_47, wX6_notes_49, wX6_notes_52, wX6_notes_53, wX6_notes_56, wX6_notes_58, wX6_notes_59, wX6_notes_62, wX6_notes_63, wX6_notes_64, wX6_notes_65, wX6_notes_66, wX6_notes_69, wX6_notes_70, wX6_notes_71, wX6_notes_72, wX6_notes_75, wX6_notes_78, wX6_notes_79, wX6_notes_80, wX6_notes_83, wX6_notes_84, wX6_notes_85, wX6_notes_88, amSI_1, amSI_2, amSI_3, amSI_s, amU_at, amIsR_ref, amIsR_null, amIsR_rf, amRf_some, amRf_none, amClr_int, amClr_ref, amClr_null, amClr_long, amClr_ra, amClr_rf, amFit_int, amFit_oref, amFit_aref, amFit_onull, amFit_anull, amOptSome, amOptNone, List.cons_append, List.nil_append, true_and, and_true, true_implies, not_true_eq_false, not_false_eq_true, false_implies, and_self, Nat.add_zero, Nat.zero_add, ne_eq, Prod.mk.injEq, amC01_0, amC01_1, amC01_nb, amNb0, amNb1, amTcpI_d, Nat.reduceLeDiff, Nat.reduceAdd, Nat.reduceSub, Nat.reduceEqDiff, Nat.le_refl, amN0le, hR.s, hR.r, amLeI, amLtI, amEqI, amLe0, amGt0, amEq0, amNotPosI, amGe0, amVI, amCl_nI, amAdd, amSub, amMul, un]
    exact this
  · have z' : (U.length = 6) = False := eq_false z
    have := start U h.2.1 (by omega) (by unfold noteU; rw [if_neg z]) (fun _ _ _ => rfl) (fun _ _ => rfl) un ur (.retAddr 0)
    refine goX6_notes hF 40 ?_
    simp (disch := omega) only [wX6_notes_0, uX6_notes_0, wX6_notes_1, wX6_notes_4, wX6_notes_6, wX6_notes_9, wX6_notes_10, wX6_notes_11, uX6_notes_11, wX6_notes_12, wX6_notes_15, wX6_notes_18, wX6_notes_19, wX6_notes_22, wX6_notes_23, wX6_notes_24, wX6_notes_27, wX6_notes_28, wX6_notes_30, wX6_notes_31, wX6_notes_32, wX6_notes_33, wX6_notes_36, wX6_notes_39, wX6_notes_40, wX6_notes_41, wX6_notes_44, uX6_notes_44, wX6_notes_45, wX6_notes_46, uX6_notes_46, wX6_notes_47, wX6_notes_49, wX6_notes_52, wX6_notes_53, wX6_notes_56, wX6_notes_58, wX6_notes_59, wX6_notes_62, wX6_notes_63, wX6_notes_64, wX6_notes_65, wX6_notes_66, wX6_notes_69, wX6_notes_70, wX6_notes_71, wX6_notes_72, wX6_notes_75, wX6_notes_78, wX6_notes_79, wX6_notes_80, wX6_notes_83, wX6_notes_84, wX6_notes_85, wX6_notes_88, amSI_1, amSI_2, amSI_3, amSI_s, amU_at, amIsR_ref, amIsR_null, amIsR_rf, amRf_some, amRf_none, amClr_int, amClr_ref, amClr_null, amClr_long, amClr_ra, amClr_rf, amFit_int, amFit_oref, amFit_aref, amFit_onull, amFit_anull, amOptSome, amOptNone, List.cons_append, List.nil_append, true_and, and_true, true_implies, not_true_eq_false, not_false_eq_true, false_implies, and_self, Nat.add_zero, Nat.zero_add, ne_eq, Prod.mk.injEq, amC01_0, amC01_1, amC01_nb, amNb0, amNb1, amTcpI_d, Nat.reduceLeDiff, Nat.reduceAdd, Nat.reduceSub, Nat.reduceEqDiff, Nat.le_refl, amN0le, hR.s, hR.r, amLeI, amLtI, amEqI, amLe0, amGt0, amEq0, amNotPosI, amGe0, amVI, amCl_nI, amAdd, amSub, amMul, un, z']
    exact this
theorem tX6_notes_d {a : Nat} {h : amH} {K : Option Value → amH → Prop} : tX6_notes [.ref a] h K = ∃ (S : HS) (U : List HS), a = (124 : Nat) ∧ mdAt h ∧ RwIs h.2.1 142 0 S ∧ UnM h.2.1 U ∧ ∀ m', UnM m' (noteU U S) → (∀ i : Nat, i ≠ 124 → i ≠ 126 → m' i = h.2.1 i) → (∀ j : Nat, j ≠ 2 → m' 124 j = h.2.1 124 j) → K none (amSI h m') := rfl
/-- noted, if it wasn't refused -/
def actU (U : List HS) (S : HS) (c : Int32) : List HS := if c < 0 then U else noteU U S
def tX6_acted : amT := fun as h K => match as with
  | [.ref a, .int c] => ∃ (S : HS) (U : List HS), a = (124 : Nat) ∧ mdAt h ∧ RwIs h.2.1 142 0 S ∧ UnM h.2.1 U ∧ ∀ m', UnM m' (actU U S c) → (∀ i : Nat, i ≠ 124 → i ≠ 126 → m' i = h.2.1 i) → (∀ j : Nat, j ≠ 2 → m' 124 j = h.2.1 124 j) → K (some (.int c)) (amSI h m')
  | _ => False
/-! ReadingStagesModel.acted(I)I -/
def kX6_acted : Nat → Bool := fun pc => pc == 8
def rX6_acted : List (Nat × amS) := [(5, 1, 0, 0, (amRecv 6 tX6_notes))]
def eX6_acted (ret : Option Value → amH → Nat → Nat → Prop) (F : amX) : Nat → amX := amWp cX6_acted kX6_acted (amLk rX6_acted) (some .int) 0 0 ret F
def sX6_acted (ret : Option Value → amH → Nat → Nat → Prop) (F : amX) : Nat → amX := amWs cX6_acted kX6_acted (amLk rX6_acted) (some .int) 0 0 ret F
theorem wX6_acted_0 {ret F n h} {v0 st x} : eX6_acted ret F (n + 1) 0 [v0, .int x] (st) h 0 0 = (eX6_acted ret F n 1 [v0, .int x] (.int x :: st) h 0 0) := (amWp_dec rfl dX6_acted_0 rfl).trans rfl
theorem uX6_acted_0 {ret F n h} {v0 st x} : sX6_acted ret F n 0 [v0, .int x] (st) h 0 0 = (eX6_acted ret F n 1 [v0, .int x] (.int x :: st) h 0 0) := (amWs_dec dX6_acted_0 rfl).trans rfl
theorem wX6_acted_1 {ret F n h} {v0 v1 st x} : eX6_acted ret F (n + 1) 1 [v0, v1] (.int x :: st) h 0 0 = ((x < 0 → eX6_acted ret F n 8 [v0, v1] (st) h 0 0) ∧ (¬ x < 0 → eX6_acted ret F n 4 [v0, v1] (st) h 0 0)) := (amWp_dec rfl dX6_acted_1 rfl).trans rfl
theorem wX6_acted_4 {ret F n h} {v0 v1 st} : eX6_acted ret F (n + 1) 4 [v0, v1] (st) h 0 0 = (amIsR v0 ∧ eX6_acted ret F n 5 [v0, v1] (v0 :: st) h 0 0) := (amWp_dec rfl dX6_acted_4 rfl).trans rfl
theorem wX6_acted_5 {ret F n h} {v0 v1 x0} : eX6_acted ret F (n + 1) 5 [v0, v1] (.ref x0 :: []) h 0 0 = (h.1 x0 = (0, 6) ∧ tX6_notes [.ref x0] h (fun v h => eX6_acted ret F n 8 [v0, v1] (v.toList ++ ([])) h 0 0)) := (amWp_dec rfl dX6_acted_5 rfl).trans (amS4 (Nat.le_of_ble_eq_true rfl) (Nat.le_of_ble_eq_true rfl) (Nat.le_of_ble_eq_true rfl) (Nat.le_of_ble_eq_true rfl))
theorem wX6_acted_8 {ret F n ls st h k z} : eX6_acted ret F (n + 1) 8 ls st h k z = F 8 ls st h k z := amWp_cut rfl
theorem uX6_acted_8 {ret F n h} {v0 st x} : sX6_acted ret F n 8 [v0, .int x] (st) h 0 0 = (eX6_acted ret F n 9 [v0, .int x] (.int x :: st) h 0 0) := (amWs_dec dX6_acted_8 rfl).trans rfl
theorem wX6_acted_9 {ret F n h} {v0 v1 x} : eX6_acted ret F (n + 1) 9 [v0, v1] ([.int x]) h 0 0 = (ret (some (.int x)) h 0 0) := (amWp_dec rfl dX6_acted_9 rfl).trans (amTrue ⟨_, rfl, rfl⟩)
theorem evX6_acted (l : Launch) (G : amG) : ∀ pc S i sz, amLk rX6_acted pc = some S → decode cX6_acted pc = .ok (i, sz) → amSiteP pc G l yX6_acted.cls yX6_acted.name yX6_acted.desc (amRm 2 0 0) i sz S.1 S.2.1 S.2.2.1 S.2.2.2 := amLk_ok (by
  refine List.forall_mem_cons.mpr ⟨⟨_, _, dX6_acted_5, amSite.P (amSiteV (C := RX6) (metX6_notes l G) rfl (by decide) (by decide) (lw_V q1525 q1527 qs63 q94 q1528) ⟨_, rfl, rfl⟩ ⟨rfl, by decide +kernel, by decide +kernel, by decide +kernel⟩)⟩, ?_⟩
  exact fun _ h => absurd h List.not_mem_nil)
theorem goX6_acted {ret F} (hF : amCld cX6_acted kX6_acted (amLk rX6_acted) (some .int) 0 0 ret F) (n : Nat) {pc ls st h k z} (q : sX6_acted ret F n pc ls st h k z) : F pc ls st h k z := hF.1 n pc ls st h k z q
theorem metX6_acted (l : Launch) (G : amG) : amMet l G yX6_acted (ws_ yX6_acted cX6_acted 2 (some .int)) 2 0 0 tX6_acted := by
  refine amMet_of (cut := kX6_acted) (by decide +kernel) (evX6_acted l G) ?_
  intro as h K hT
  match as, hT with
  | [.ref a, .int c], ⟨S, U, e, hR, h1, hu, hK⟩ =>
  refine ⟨Nat.le_of_ble_eq_true rfl, fun F hF => ?_⟩
  show F 0 [.ref a, .int c] [] h 0 0
  obtain ⟨a, rfl⟩ : ∃ i : Nat, i = a := ⟨_, rfl⟩
  subst e
  refine goX6_acted hF 40 ?_
  simp (disch := omega) only [wX6_acted_0, uX6_acted_0, wX6_acted_1, wX6_acted_4, wX6_acted_5, wX6_acted_8, uX6_acted_8, wX6_acted_9, amSI_1, amSI_2, amSI_3, amSI_s, amU_at, amIsR_ref, amIsR_null, amIsR_rf, amRf_some, amRf_none, amClr_int, amClr_ref, amClr_null, amClr_long, amClr_ra, amClr_rf, amFit_int, amFit_oref, amFit_aref, amFit_onull, amFit_anull, amOptSome, amOptNone, List.cons_append, List.nil_append, true_and, and_true, true_implies, not_true_eq_false, not_false_eq_true, false_implies, and_self, Nat.add_zero, Nat.zero_add, ne_eq, Prod.mk.injEq, amC01_0, amC01_1, amC01_nb, amNb0, amNb1, amTcpI_d, Nat.reduceLeDiff, Nat.reduceAdd, Nat.reduceSub, Nat.reduceEqDiff, Nat.le_refl, amN0le, hR.s, hR.r]
  refine ⟨fun z => ?_, fun z => ⟨S, U, rfl, hR, h1, hu, fun m' q1 q2 q3 => ?_⟩⟩
  · have := hK h.2.1
    unfold actU at this
    rw [if_pos z] at this
    have key := this hu (fun _ _ _ => rfl) (fun _ _ => rfl)
    refine goX6_acted hF 40 ?_
    simp (disch := omega) only [wX6_acted_0, uX6_acted_0, wX6_acted_1, wX6_acted_4, wX6_acted_5, wX6_acted_8, uX6_acted_8, wX6_acted_9, amSI_1, amSI_2, amSI_3, amSI_s, amU_at, amIsR_ref, amIsR_null, amIsR_rf, amRf_some, amRf_none, amClr_int, amClr_ref, amClr_null, amClr_long, amClr_ra, amClr_rf, amFit_int, amFit_oref, amFit_aref, amFit_onull, amFit_anull, amOptSome, amOptNone, List.cons_append, List.nil_append, true_and, and_true, true_implies, not_true_eq_false, not_false_eq_true, false_implies, and_self, Nat.add_zero, Nat.zero_add, ne_eq, Prod.mk.injEq, amC01_0, amC01_1, amC01_nb, amNb0, amNb1, amTcpI_d, Nat.reduceLeDiff, Nat.reduceAdd, Nat.reduceSub, Nat.reduceEqDiff, Nat.le_refl, amN0le, hR.s, hR.r]
    exact amRet.of (by decide) (by decide) key
  · have := hK m'
    unfold actU at this
    rw [if_neg z] at this
    refine goX6_acted hF 40 ?_
    simp (disch := omega) only [wX6_acted_0, uX6_acted_0, wX6_acted_1, wX6_acted_4, wX6_acted_5, wX6_acted_8, uX6_acted_8, wX6_acted_9, amSI_1, amSI_2, amSI_3, amSI_s, amU_at, amIsR_ref, amIsR_null, amIsR_rf, amRf_some, amRf_none, amClr_int, amClr_ref, amClr_null, amClr_long, amClr_ra, amClr_rf, amFit_int, amFit_oref, amFit_aref, amFit_onull, amFit_anull, amOptSome, amOptNone, List.cons_append, List.nil_append, true_and, and_true, true_implies, not_true_eq_false, not_false_eq_true, false_implies, and_self, Nat.add_zero, Nat.zero_add, ne_eq, Prod.mk.injEq, amC01_0, amC01_1, amC01_nb, amNb0, amNb1, amTcpI_d, Nat.reduceLeDiff, Nat.reduceAdd, Nat.reduceSub, Nat.reduceEqDiff, Nat.le_refl, amN0le, hR.s, hR.r]
    have key := this q1 q2 q3
    exact amRet.of (by decide) (by decide) key
theorem tX6_acted_d {a : Nat} {c : Int32} {h : amH} {K : Option Value → amH → Prop} : tX6_acted [.ref a, .int c] h K = ∃ (S : HS) (U : List HS), a = (124 : Nat) ∧ mdAt h ∧ RwIs h.2.1 142 0 S ∧ UnM h.2.1 U ∧ ∀ m', UnM m' (actU U S c) → (∀ i : Nat, i ≠ 124 → i ≠ 126 → m' i = h.2.1 i) → (∀ j : Nat, j ≠ 2 → m' 124 j = h.2.1 124 j) → K (some (.int c)) (amSI h m') := rfl
