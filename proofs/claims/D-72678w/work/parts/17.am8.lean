/-! AM: words and rules for methods' conditions -/
set_option maxRecDepth 100000
/-- the heap with other ints -/
def amSI (h : amH) (m : Nat → Nat → Int32) : amH := (h.1, m, h.2.2)
theorem amSI_1 (h : amH) (m : Nat → Nat → Int32) : (amSI h m).1 = h.1 := rfl
theorem amSI_2 (h : amH) (m : Nat → Nat → Int32) : (amSI h m).2.1 = m := rfl
theorem amSI_3 (h : amH) (m : Nat → Nat → Int32) : (amSI h m).2.2 = h.2.2 := rfl
theorem amSI_s (h : amH) (m n : Nat → Nat → Int32) : amSI (amSI h m) n = amSI h n := rfl
theorem amSI_rf (h : amH) : amSI h h.2.1 = h := rfl
def amU (m : Nat → Nat → Int32) (a j : Nat) (x : Int32) : Nat → Nat → Int32 := va_up m a (va_up (m a) j x)
theorem amU_at (m : Nat → Nat → Int32) (a j : Nat) (x : Int32) : amU m a j x a j = x := by simp [amU, va_up]
theorem amU_ne {m : Nat → Nat → Int32} {a j b g : Nat} {x : Int32} (hb : b ≠ a) : amU m a j x b g = m b g := by simp [amU, va_up, hb]
theorem amU_nj {m : Nat → Nat → Int32} {a j b g : Nat} {x : Int32} (hb : g ≠ j) : amU m a j x b g = m b g := by
  unfold amU va_up
  by_cases h : b = a
  · rw [if_pos h, if_neg hb, h]
  · rw [if_neg h]
theorem amWr_i (h : amH) (a j : Nat) (x : Int32) : amWr h a j (.int x) = amSI h (amU h.2.1 a j x) := rfl
theorem amTrue {A B : Prop} (h : A) : (A ∧ B) = B := propext ⟨fun q => q.2, fun q => ⟨h, q⟩⟩
theorem amTrue2 {A B C : Prop} (h : B) : (A ∧ B ∧ C) = (A ∧ C) := propext ⟨fun q => ⟨q.1, q.2.2⟩, fun q => ⟨q.1, h, q.2⟩⟩
theorem amS2 {A B C : Prop} (h : A) (g : B) : (A ∧ B ∧ C) = C := propext ⟨fun q => q.2.2, fun q => ⟨h, g, q⟩⟩
theorem amS4 {A B C D E : Prop} (h1 : A) (h2 : B) (h3 : C) (h4 : D) : (A ∧ B ∧ C ∧ D ∧ E) = E := propext ⟨fun q => q.2.2.2.2, fun q => ⟨h1, h2, h3, h4, q⟩⟩
theorem amRetTy {ty : FieldType} {x : Int32} {B : Prop} : ((∃ t, some ty = some t ∧ narrow t (.int x) = .int x) ∧ B) = (narrow ty (.int x) = .int x ∧ B) :=
  propext ⟨fun q => ⟨by obtain ⟨t, h1, h2⟩ := q.1; cases h1; exact h2, q.2⟩, fun q => ⟨⟨_, rfl, q.1⟩, q.2⟩⟩
theorem amDec (x : Int32) (n : Nat) (h : n < 100) : x + Int32.ofInt (-(n : Int)) = x - nI n := by
  rw [Int32.sub_eq_add_neg]
  congr 1
  have : ∀ n : Nat, n < 100 → Int32.ofInt (-(n : Int)) = -nI n := by decide +kernel
  exact this n h
theorem amIsR_ref (a : Nat) : amIsR (.ref a) = True := eq_true (Or.inr ⟨a, rfl⟩)
theorem amIsR_null : amIsR .null = True := eq_true (Or.inl rfl)
theorem amIsR_rf (r : Option Nat) : amIsR (va_rf r) = True := by cases r with
  | none => exact amIsR_null
  | some a => exact amIsR_ref a
theorem amRf_some (a : Nat) : va_rf (some a) = .ref a := rfl
theorem amRf_none : va_rf none = .null := rfl
theorem amClr_int (x : Int32) : amClr (.int x) = .int x := rfl
theorem amClr_ref (x : Nat) : amClr (.ref x) = .ref x := rfl
theorem amClr_null : amClr .null = .null := rfl
theorem amClr_long (x : Int64) : amClr (.long x) = .retAddr 0 := rfl
theorem amClr_ra (x : Nat) : amClr (.retAddr x) = .retAddr x := rfl
theorem amClr_rf (r : Option Nat) : amClr (va_rf r) = va_rf r := by cases r <;> rfl
theorem amFit_int (x : Int32) : amFit .int (.int x) = True := eq_true ⟨rfl, rfl, rfl⟩
theorem amFit_oref (s : String) (x : Nat) : amFit (.object s) (.ref x) = True := eq_true rfl
theorem amFit_aref (s : FieldType) (x : Nat) : amFit (.array s) (.ref x) = True := eq_true rfl
theorem amFit_onull (s : String) : amFit (.object s) .null = True := eq_true rfl
theorem amFit_anull (s : FieldType) : amFit (.array s) .null = True := eq_true rfl
theorem amVI {n N : Nat} (h : n < N) (hN : N < 2147483648) : vp_in (nI n) N = True := eq_true (vp_in_nI h (by omega))
theorem amCl_nI {n : Nat} (h : n < 2147483648) : (nI n).toNatClampNeg = n := nI_clamp (by omega)
theorem amLeI {a b : Nat} (ha : a < 2147483648) (hb : b < 2147483648) : (nI a ≤ nI b) = (a ≤ b) := propext (nI_leI (by omega) (by omega))
theorem amLtI {a b : Nat} (ha : a < 2147483648) (hb : b < 2147483648) : (nI a < nI b) = (a < b) := propext (nI_ltI (by omega) (by omega))
theorem amEqI {a b : Nat} (ha : a < 2147483648) (hb : b < 2147483648) : (nI a = nI b) = (a = b) := propext (nI_eq (by omega) (by omega))
theorem am0 : (0 : Int32) = nI 0 := rfl
theorem amSub {a b : Nat} (h : b ≤ a) : nI a - nI b = nI (a - b) := pk_sub h
theorem amAdd (a b : Nat) : nI a + nI b = nI (a + b) := nI_add a b
theorem amMul (a b : Nat) : nI a * nI b = nI (a * b) := pk_mul a b
theorem amToL {n : Nat} (h : n < 2147483648) : (nI n).toInt64 = lN n := nI_l (by omega)
theorem amNotPosI {n : Nat} (h : n < 2147483648) : (nI n < 0) = False := eq_false (nI_pos (by omega))
theorem amGe0 {n : Nat} (h : n < 2147483648) : (0 ≤ nI n) = True := eq_true (nI_pos' (by omega))
theorem amOptSome (v : Value) : (some v).toList = [v] := rfl
theorem amOptNone : (none : Option Value).toList = [] := rfl
theorem amN0_le {a : Nat} (h : 24 ≤ a) : (amN0 ≤ a) = True := eq_true h
/-- a boolean as an int -/
def amB (c : Prop) [Decidable c] : Int32 := if c then 1 else 0
theorem amB_t {c : Prop} [Decidable c] (h : c) : amB c = 1 := if_pos h
theorem amB_f {c : Prop} [Decidable c] (h : ¬ c) : amB c = 0 := if_neg h
/-! System.arraycopy -/
def amTcpI : amT := fun as h K => match as with
  | [.ref s, .int sp, .ref d, .int dp, .int n] => 1 ≤ (h.1 s).1 ∧ (h.1 s).1 ≤ 4 ∧ (h.1 d).1 = (h.1 s).1 ∧ ¬ sp < 0 ∧ ¬ dp < 0 ∧ ¬ n < 0 ∧ sp.toNatClampNeg + n.toNatClampNeg ≤ (h.1 s).2 ∧ dp.toNatClampNeg + n.toNatClampNeg ≤ (h.1 d).2 ∧ amN0 ≤ d ∧ K none (amSI h (va_up h.2.1 d (va_cpy (h.2.1 s) (h.2.1 d) sp.toNatClampNeg dp.toNatClampNeg n.toNatClampNeg)))
  | _ => False
def amTcpR : amT := fun as h K => match as with
  | [.ref s, .int sp, .ref d, .int dp, .int n] => (h.1 s).1 = 7 ∧ (h.1 d).1 = 7 ∧ (∀ i y, i < n.toNatClampNeg → h.2.2.2.1 s (sp.toNatClampNeg + i) = some y → h.1 y = (0, 1)) ∧ ¬ sp < 0 ∧ ¬ dp < 0 ∧ ¬ n < 0 ∧ sp.toNatClampNeg + n.toNatClampNeg ≤ (h.1 s).2 ∧ dp.toNatClampNeg + n.toNatClampNeg ≤ (h.1 d).2 ∧ amN0 ≤ d ∧ K none (h.1, h.2.1, h.2.2.1, va_up h.2.2.2.1 d (va_cpy (h.2.2.2.1 s) (h.2.2.2.1 d) sp.toNatClampNeg dp.toNatClampNeg n.toNatClampNeg), h.2.2.2.2)
  | _ => False
theorem amNN (z : Int32) (hz : ¬ z < 0) : z.toInt = (z.toNatClampNeg : Int) := by
  have hz0 : (0 : Int) ≤ z.toInt := by
    have := Int32.not_lt.mp hz
    simpa using Int32.le_iff_toInt_le.mp this
  show z.toInt = ((z.toInt.toNat : Nat) : Int)
  omega
section AMCP
variable {G : amG} {l : Launch} {own nm : String} {R : Room} {idx dR mcR msR : Nat}
theorem amSiteCpI (hRm : R = amRm dR mcR msR) (hd1 : 1 ≤ dR) (hl : Cond.methodLink own idx arraycopyName ∈ lw_all) (hw1 : Cond.native arraycopyName ∈ lw_all) (hw2 : Cond.static arraycopyName ∈ lw_all) (hw3 : Cond.initialized "java/lang/System" ∈ lw_all) : amSite G l own nm R (.invokestatic idx) 3 5 0 0 amTcpI := by
  intro cc nL p e s m args below meth c Q pc ls as st h k z K hC hnm hd hT hn hcat hk hz kk
  match as, hT with
  | [.ref src, .int sp, .ref dst, .int dp, .int n], hT =>
  obtain ⟨t1, t2, t3, t4, t5, t6, t7, t8, t9, t10⟩ := hT
  intro H locs lsv hR hS hL T hT0 X
  obtain ⟨hx, hb, hml, hown, hts, hK, hb0⟩ := hC
  have hcs := hR.arr (a := src) (k := (h.1 src).1) (n := (h.1 src).2) rfl t1 (by omega)
  have hcd := hR.arr (a := dst) (k := (h.1 src).1) (n := (h.1 dst).2) (Prod.ext t3 rfl) t1 (by omega)
  generalize hkd : (h.1 src).1 = kd at t1 t2 t3 hcs hcd
  generalize hn0 : (h.1 src).2 = n0 at t7 hcs
  generalize hn1 : (h.1 dst).2 = n1 at t8 hcd
  have het : ∀ j, amEt kd j = amKt kd := fun j => by unfold amEt; rw [if_pos (by omega)]
  have hmk : amMk (amKt kd) = 0 := by
    match kd, t1, t2 with
    | 1, _, _ => rfl
    | 2, _, _ => rfl
    | 3, _, _ => rfl
    | 4, _, _ => rfl
    | k + 5, _, h => omega
  have hprim : refKind (amKt kd) = false := by
    match kd, t1, t2 with
    | 1, _, _ => rfl
    | 2, _, _ => rfl
    | 3, _, _ => rfl
    | 4, _, _ => rfl
    | k + 5, _, h => omega
  have hrd : ∀ (a j : Nat), amV G (amRd (amEt kd j) h a j) = .int (h.2.1 a j) := fun a j => by rw [het]; unfold amRd; rw [hmk]; rfl
  have e0 : (fun j => amV G (amRd (amEt kd j) h src j)) = fun j => Value.int (h.2.1 src j) := funext (hrd src)
  have e1 : (fun j => amV G (amRd (amEt kd j) h dst j)) = fun j => Value.int (h.2.1 dst j) := funext (hrd dst)
  have hc0 := hcs.1
  have hc1 := hcd.1.own t9
  rw [e0] at hc0
  rw [e1] at hc1
  obtain ⟨ce, hc0, ⟨x2, x3, x4, x5⟩, -⟩ := hc0
  obtain ⟨-, k0, hk0, cm0, hkk0⟩ := (amArrT hK (k := kd) t1 (by omega)).1 n0 (fun j => .int (h.2.1 src j))
  obtain ⟨-, k1, hk1, cm1, hkk1⟩ := (amArrT hK (k := kd) t1 (by omega)).1 n1 (fun j => .int (h.2.1 dst j))
  obtain ⟨vm', X', step⟩ := X.arraycopy hx hown (hts _ hl) (hts _ hw1) (hts _ hw2) (hts _ hw3) (src := amAd G src) (dst := amAd G dst) (cs := ce) (cd := arrV (G.2.1 kd) n1 (fun j => .int (h.2.1 dst j))) (srcPos := sp) (destPos := dp) (n := n) (by rw [hT0]; exact hc0) (by rw [hT0]; exact hc1)
    (fun _ h => by rw [h] at x4; cases x4) (fun _ h => by cases h) x5 (fun h => by cases h) (by rw [x2]; exact hk0) hk1 hkk0 hkk1 (by simp [hprim]) t4 t5 t6
    (by rw [amNN sp t4, amNN n t6, x3, arrV_size]; omega)
    (by rw [amNN dp t5, amNN n t6, arrV_size]; omega)
    (fun vm₁ _ i hi => by
      have e : ce.slots.getD (sp.toNatClampNeg + i) .null = .int (h.2.1 src (sp.toNatClampNeg + i)) := by
        rw [x3, Array.getD_eq_getD_getElem?, arrV_read _ _ (by omega)]
        rfl
      refine ⟨?_, ?_⟩
      · rw [e]
        have := hcs.2 (sp.toNatClampNeg + i) (by omega) (by rw [het]; exact hmk)
        rw [het] at this
        exact this
      · rw [e]
        exact trivial)
    (g := F0 m pc lsv (.int n :: .int dp :: .ref (amAd G dst) :: .int sp :: .ref (amAd G src) :: st.map (amV G))) rfl (by rw [hml]; exact hL.2.1) (rest := st.map (amV G)) rfl (by rw [hb]; exact hd) (by rw [hRm]; exact hd1) (by
      rw [hRm, amCats]
      show 2 * 0 + _ + (nativeFrameWords "java/lang/System" "arraycopy" 5 + 11) ≤ 12000 + 64 * dR
      have : nativeFrameWords "java/lang/System" "arraycopy" 5 + 11 ≤ 11000 := by decide +kernel
      omega)
  have e3 : ∀ cd sp dp n, copied ce cd sp dp n = copied (arrV (G.2.1 kd) n0 (fun j => Value.int (h.2.1 src j))) cd sp dp n := fun cd sp dp n => by unfold copied Cell.stretch; rw [x3]
  rw [e3] at X' step
  have e2 : copied (arrV (G.2.1 kd) n0 (fun j => Value.int (h.2.1 src j))) (arrV (G.2.1 kd) n1 (fun j => Value.int (h.2.1 dst j))) sp dp n = arrV (G.2.1 kd) n1 (fun j => .int (va_cpy (h.2.1 src) (h.2.1 dst) sp.toNatClampNeg dp.toNatClampNeg n.toNatClampNeg j)) := va_copied (fun z => .int z) (G.2.1 kd) (G.2.1 kd) (h.2.1 src) (h.2.1 dst) t7
  rw [e2] at X' step
  have hlt : amAd G dst < H.size := (Array.getElem?_eq_some_iff.mp hc1).1
  generalize hH1 : H.setIfInBounds (amAd G dst) (arrV (G.2.1 kd) n1 (fun j => Value.int (va_cpy (h.2.1 src) (h.2.1 dst) sp.toNatClampNeg dp.toNatClampNeg n.toNatClampNeg j))) = H1
  have hheap : ((T.setVm vm').setCell (amAd G dst) (arrV (G.2.1 kd) n1 (fun j => Value.int (va_cpy (h.2.1 src) (h.2.1 dst) sp.toNatClampNeg dp.toNatClampNeg n.toNatClampNeg j)))).heap = H1 := by rw [← hH1, ← hT0]; rfl
  have hz1 : H1.size = H.size := by rw [← hH1]; simp
  have hat : H1[amAd G dst]? = some (arrV (G.2.1 kd) n1 (fun j => Value.int (va_cpy (h.2.1 src) (h.2.1 dst) sp.toNatClampNeg dp.toNatClampNeg n.toNatClampNeg j))) := by rw [← hH1]; simp [Array.getElem?_setIfInBounds, hlt]
  have oq : ∀ q : Nat, q ≠ amAd G dst → H1[q]? = H[q]? := fun q hq => by rw [← hH1]; simp [Array.getElem?_setIfInBounds, Ne.symm hq]
  have hR' : amRep G (amSI h (va_up h.2.1 dst (va_cpy (h.2.1 src) (h.2.1 dst) sp.toNatClampNeg dp.toNatClampNeg n.toNatClampNeg))) H1 := by
    refine hR.upd t9 hz1 oq rfl rfl (fun i hi => ⟨by simp [amSI, va_up, hi], rfl, rfl⟩) ⟨fun q => ?_, fun _ _ => ?_⟩
    · rw [amSI_1, t3] at q
      omega
    · rw [amSI_1, t3, hn1]
      refine ⟨?_, fun j hj hm => ?_⟩
      · refine amAV.of ?_
        show H1[amAd G dst]? = _
        rw [hat]
        congr 2
        funext j
        rw [het]
        unfold amRd
        rw [hmk]
        simp [amSI, va_up, amV]
      · rw [het] at hm ⊢
        have e5 : (amSI h (va_up h.2.1 dst (va_cpy (h.2.1 src) (h.2.1 dst) sp.toNatClampNeg dp.toNatClampNeg n.toNatClampNeg))).2.1 dst j = va_cpy (h.2.1 src) (h.2.1 dst) sp.toNatClampNeg dp.toNatClampNeg n.toNatClampNeg j := by simp [amSI, va_up]
        rw [e5]
        unfold va_cpy
        split
        · have := hcs.2 (sp.toNatClampNeg + (j - dp.toNatClampNeg)) (by omega) (by rw [het]; exact hm)
          rw [het] at this
          exact this
        · have := hcd.2 j hj (by rw [het]; exact hm)
          rw [het] at this
          exact this
  obtain ⟨t, a1, b1⟩ := kk _ _ t10 H1 _ lsv hR' ⟨by rw [hz1]; exact hS.1, fun q g1 g2 => by
      rw [oq q (fun e => g2 (by rw [e]; exact amAd_own t9))]
      exact hS.2.1 q g1 g2, fun q hq => by
      rcases List.mem_append.mp hq with h | h
      · exact hS.2.2 q h
      · obtain ⟨z, -, hz⟩ := List.mem_map.mp h
        rw [← hz]
        exact amAd_own t9⟩ hL _ hheap X'
  exact ⟨t, step t a1, b1⟩
end AMCP
def amTast (kd ci : Nat) : amT := fun as h K => match as with
  | [.ref a, .int i, .ref b] => h.1 b = (0, ci) ∧ (h.1 a).1 = kd ∧ vp_in i (h.1 a).2 ∧ amN0 ≤ a ∧ K none (amWr h a i.toNatClampNeg (.ref b))
  | _ => False
theorem amSiteAst {G : amG} {l : Launch} {own nm : String} {R : Room} {kd ci : Nat} (hk : (kd = 7 ∧ ci = 1) ∨ (kd = 8 ∧ ci = 5)) : amSite G l own nm R .aastore 1 3 0 0 (amTast kd ci) := by
  intro cc nL p e s m args below meth c Q pc ls as st h k z K hC hnm hd hT hn hcat hk' hz kk
  match as, hT with
  | [.ref a, .int i, .ref b], hT => exact am_aastore hC hd hk (Prod.ext hT.2.1 rfl) hT.1 hT.2.2.1 hT.2.2.2.1 (kk _ _ hT.2.2.2.2)
