/-! AM: the rows, an instruction each, over amF -/
set_option maxRecDepth 100000
theorem amKn.moved {G : amG} {s U : State} {H : Heap} {locs : List Loc} (h : amKn G s) (hS : va_S (amA G) s.heap H locs) (hU : U.heap = H) (hW : s.WarmedH U.vm) : amKn G U := by
  obtain ⟨h1, h2, h3, h4, h5, h6, h7, h8, h9, h10, h11, h12⟩ := h
  refine ⟨va_K.moved hW.alike h1, fun q hq => (h2 q hq).warmF hW, fun q hq => (h3 q hq).warmM hW, fun q hq => va_Fw.moved ?_ hW.alike (h4 q hq), fun C hC => (h5 C hC).moved hW.alike, fun q hq => ?_, fun q hq => (h7 q hq).warm hW, fun w hw => (amGW_mv w hw).2 s U hW (h8 w hw), fun q hq => amLamAt hW (h9 q hq), fun q hq => ?_, fun q hq => (h11 q hq).moved hW.alike, h12.moved hW.alike⟩
  · have hall : ∀ q ∈ amFW, q.2.1.cls ≠ "java/lang/invoke/MethodHandle" ∧ q.2.1.cls ≠ "java/lang/invoke/VarHandle" := by decide +kernel
    exact hall q hq
  · rw [hU]
    exact ((h6 q hq).moved hW.alike).kept hS.2.1
  · rw [hU]
    exact ((h10 q hq).moved hW.alike).kept hS.2.1
def amC (G : amG) (own : String) (cc : ByteArray) (nL : Nat) (p : Program) (s : State) (m : MethodId) (args : Array Value) (c : Code) : Prop :=
  p.tables.exec = Jvm.exec ∧ c.code = cc ∧ c.maxLocals = nL ∧ s.vm.findClass own = some m.cls ∧ (∀ w ∈ lw_all, w.before args s = true) ∧ amKn G s ∧ G.2.2.1 ≤ s.heap.size
def amRA (v : Value) : Bool := match v with
  | .retAddr _ => true
  | _ => false
def amAs (G : amG) (ls : List Value) : List (Nat × Value) := (List.range ls.length).filterMap (fun i => match ls[i]? with
  | some v => if amRA v = true then none else some (i, amV G v)
  | none => none)
theorem amAs_mem {G : amG} {ls : List Value} {q : Nat × Value} : q ∈ amAs G ls ↔ ∃ v, ls[q.1]? = some v ∧ amRA v = false ∧ q.2 = amV G v := by
  unfold amAs
  rw [List.mem_filterMap]
  constructor
  · rintro ⟨i, hi, h⟩
    cases hv : ls[i]? with
    | none => rw [hv] at h; cases h
    | some v =>
      rw [hv] at h
      simp only at h
      by_cases hr : amRA v = true
      · rw [if_pos hr] at h; cases h
      · rw [if_neg hr] at h
        cases h
        exact ⟨v, hv, by simpa using hr, rfl⟩
  · rintro ⟨v, h1, h2, h3⟩
    refine ⟨q.1, List.mem_range.mpr (List.getElem?_eq_some_iff.mp h1).1, ?_⟩
    rw [h1]
    simp only [h2]
    rw [← h3]
    rfl
def amL (G : amG) (nL : Nat) (lsv : Array Slot) (ls : List Value) : Prop := ls.length = nL ∧ lv_has lsv nL (amAs G ls)
theorem amL.at {G : amG} {nL : Nat} {lsv : Array Slot} {ls : List Value} (h : amL G nL lsv ls) {i : Nat} {v : Value} (hi : ls[i]? = some v) (hr : amRA v = false) : lsv[i]? = some (.val (amV G v)) :=
  h.2.2.2 (i, amV G v) (amAs_mem.mpr ⟨v, hi, hr, rfl⟩)
theorem lv_has.mono {ls : Array Slot} {nL : Nat} {l l' : List (Nat × Value)} (h : lv_has ls nL l) (hm : ∀ q ∈ l', q ∈ l) : lv_has ls nL l' := ⟨h.1, h.2.1, fun q hq => h.2.2 q (hm q hq)⟩
def amClr (v : Value) : Value := match v with
  | .long _ => .retAddr 0
  | .double _ => .retAddr 0
  | v => v
/-- storing a value of one slot -/
def amSet (ls : List Value) (i : Nat) (v : Value) : List Value := match ls, i with
  | [], _ => []
  | _ :: t, 0 => v :: t
  | a :: t, 1 => amClr a :: amSet t 0 v
  | a :: t, i + 2 => a :: amSet t (i + 1) v
theorem amSet_len (v : Value) : ∀ (ls : List Value) (i : Nat), (amSet ls i v).length = ls.length
  | [], _ => by simp [amSet]
  | _ :: t, 0 => by simp [amSet]
  | a :: t, 1 => by simp [amSet, amSet_len v t 0]
  | a :: t, i + 2 => by simp [amSet, amSet_len v t (i + 1)]
theorem amSet_at (v : Value) : ∀ (ls : List Value) (i j : Nat) (w : Value), (amSet ls i v)[j]? = some w → (j = i ∧ w = v) ∨ (j ≠ i ∧ ∃ w0, ls[j]? = some w0 ∧ ((j + 1 = i ∧ w = amClr w0) ∨ (j + 1 ≠ i ∧ w = w0)))
  | [], i, j, w, h => by simp [amSet] at h
  | a :: t, 0, 0, w, h => by
    simp [amSet] at h
    exact Or.inl ⟨rfl, h.symm⟩
  | a :: t, 0, j + 1, w, h => by
    simp only [amSet, List.getElem?_cons_succ] at h
    exact Or.inr ⟨by omega, w, by rw [List.getElem?_cons_succ]; exact h, Or.inr ⟨by omega, rfl⟩⟩
  | a :: t, 1, 0, w, h => by
    simp [amSet] at h
    exact Or.inr ⟨by omega, a, rfl, Or.inl ⟨rfl, h.symm⟩⟩
  | a :: t, 1, j + 1, w, h => by
    simp only [amSet, List.getElem?_cons_succ] at h
    rcases amSet_at v t 0 j w h with ⟨h1, h2⟩ | ⟨h1, w0, h2, h3⟩
    · exact Or.inl ⟨by omega, h2⟩
    · refine Or.inr ⟨by omega, w0, by rw [List.getElem?_cons_succ]; exact h2, ?_⟩
      rcases h3 with ⟨h3, -⟩ | ⟨-, h3⟩
      · omega
      · exact Or.inr ⟨by omega, h3⟩
  | a :: t, i + 2, 0, w, h => by
    simp [amSet] at h
    exact Or.inr ⟨by omega, a, rfl, Or.inr ⟨by omega, h.symm⟩⟩
  | a :: t, i + 2, j + 1, w, h => by
    simp only [amSet, List.getElem?_cons_succ] at h
    rcases amSet_at v t (i + 1) j w h with ⟨h1, h2⟩ | ⟨h1, w0, h2, h3⟩
    · exact Or.inl ⟨by omega, h2⟩
    · refine Or.inr ⟨by omega, w0, by rw [List.getElem?_cons_succ]; exact h2, ?_⟩
      rcases h3 with ⟨h3, h4⟩ | ⟨h3, h4⟩
      · exact Or.inl ⟨by omega, h4⟩
      · exact Or.inr ⟨by omega, h4⟩
theorem amClr_cat {v : Value} (h : amRA (amClr v) = false) : amClr v = v ∧ ¬ v.category = 2 := by
  cases v <;> simp_all [amClr, amRA, Value.category]
theorem amL.set {G : amG} {nL i : Nat} {ls' : Array Slot} {ls : List Value} {v : Value} (hlen : ls.length = nL) (h : lv_has ls' nL ((i, amV G v) :: (amAs G ls).filter (fun q => !(q.1 == i) && !(q.1 + 1 == i && q.2.category == 2)))) : amL G nL ls' (amSet ls i v) := by
  refine ⟨by rw [amSet_len]; exact hlen, h.mono (fun q hq => ?_)⟩
  obtain ⟨w, h1, h2, h3⟩ := amAs_mem.mp hq
  rcases amSet_at v ls i q.1 w h1 with ⟨e1, e2⟩ | ⟨e1, w0, e2, e3⟩
  · have : q = (i, amV G v) := by rw [← e1, ← e2, ← h3]
    rw [this]
    exact List.mem_cons_self
  · refine List.mem_cons_of_mem _ (List.mem_filter.mpr ⟨?_, ?_⟩)
    · rcases e3 with ⟨-, e3⟩ | ⟨-, e3⟩
      · subst e3
        obtain ⟨z1, z2⟩ := amClr_cat h2
        exact amAs_mem.mpr ⟨w0, e2, by rw [← z1]; exact h2, by rw [h3, z1]⟩
      · subst e3
        exact amAs_mem.mpr ⟨w, e2, h2, h3⟩
    · rcases e3 with ⟨e4, e3⟩ | ⟨e4, -⟩
      · subst e3
        obtain ⟨z1, z2⟩ := amClr_cat h2
        have hc : ¬ q.2.category = 2 := by rw [h3, z1, amV_cat]; exact z2
        simp [e1, hc]
      · simp [e1, e4]
section AMR
variable {G : amG} {own : String} {cc : ByteArray} {nL : Nat} {p : Program} {l : Launch} {e : Env} {R : Room} {s : State} {m : MethodId} {args : Array Value} {below : List Frame} {meth : Method} {c : Code} {Q : State → Prop}
/-- at a place of the code, with such locals, such a stack, such a heap: it comes to the end -/
def amF (G : amG) (p : Program) (l : Launch) (e : Env) (R : Room) (s : State) (m : MethodId) (args : Array Value) (below : List Frame) (meth : Method) (c : Code) (nL : Nat) (Q : State → Prop) (pc : Nat) (ls st : List Value) (h : amH) (k z : Nat) : Prop :=
  ∀ (H : Heap) (locs : List Loc) (lsv : Array Slot), amRep G h H → va_S (amA G) s.heap H locs → amL G nL lsv ls → W p l e R s m args below meth c H locs k z Q (F0 m pc lsv (st.map (amV G)))
variable {pc : Nat} {ls st : List Value} {h : amH} {k z : Nat}
/-- rows that touch neither heap nor locals -/
theorem amF.by {pc' : Nat} {st' : List Value} (hk : amF G p l e R s m args below meth c nL Q pc' ls st' h k z) (row : ∀ (H : Heap) (locs : List Loc) (lsv : Array Slot), W p l e R s m args below meth c H locs k z Q (F0 m pc' lsv (st'.map (amV G))) → W p l e R s m args below meth c H locs k z Q (F0 m pc lsv (st.map (amV G)))) : amF G p l e R s m args below meth c nL Q pc ls st h k z :=
  fun H locs lsv hR hS hL => row H locs lsv (hk H locs lsv hR hS hL)
theorem amF.eq {h' : amH} (he : amEq h h') (hk : amF G p l e R s m args below meth c nL Q pc ls st h' k z) : amF G p l e R s m args below meth c nL Q pc ls st h k z := fun H locs lsv hR hS hL => hk H locs lsv (hR.eq he) hS hL
theorem amF.widen {k' z' : Nat} (h1 : k ≤ k') (h2 : z ≤ z') (hk : amF G p l e R s m args below meth c nL Q pc ls st h k' z') : amF G p l e R s m args below meth c nL Q pc ls st h k z := fun H locs lsv hR hS hL => W.widen h1 h2 (hk H locs lsv hR hS hL)
def amFS (own : String) (idx ci k : Nat) : Prop := ∃ q : vw_C, amCl[ci]? = some q ∧ k < q.2.2 ∧ (Cond.fieldLink own idx (q.2.1 k).1 (q.2.1 k).2.1 (q.2.1 k).2.2.1 ∈ lw_all ∨ ∃ host, (own, idx, (q.2.1 k).1, (q.2.1 k).2.1, (q.2.1 k).2.2.1, host) ∈ amNF)
theorem am_getfield {idx ci f a : Nat} (hC : amC G own cc nL p s m args c) (hd : decode cc pc = .ok (.getfield idx, 3)) (hF : amFS own idx ci f) (hs : h.1 a = (0, ci)) (hk : amF G p l e R s m args below meth c nL Q (pc + 3) ls (amRd (amTy ci f) h a f :: st) h k z) : amF G p l e R s m args below meth c nL Q pc ls (.ref a :: st) h k z := by
  intro H locs lsv hR hS hL
  obtain ⟨hx, hb, hml, hown, hts, hK, hb0⟩ := hC
  obtain ⟨q, hq, hf, hl⟩ := hF
  obtain ⟨r, hr, cell, q1, q2, q3, q4⟩ := hR.obj hs
  have : r = q := Option.some.inj (hr.symm.trans hq)
  subst this
  obtain ⟨hSl, hfc, kC, hkC, hkind⟩ := hK.1.1 ci _ hq
  obtain ⟨cf, kf, fi, fd, hi, hsl⟩ := hSl f hf
  have hst := (u_facts hfc hkC (u_lays hts (amIn hq) hf) hi).1
  have hv : cell.slots[fd.slot]? = some (amV G (amRd (amTy ci f) h a f)) := by rw [hsl]; exact q4 f hf
  rcases hl with hl | ⟨host, hl⟩
  · exact W.getf hx hb hown (hts _ hl) hi hst q1 q3.1.2 hv rfl rfl hd (hk H locs lsv hR hS hL)
  · exact va_Wgetf hx hb hown (va_Nw.use rfl (hK.2.1 _ hl)) hi hst q1 q3.1.2 hv rfl rfl hd (hk H locs lsv hR hS hL)
theorem amArrT (hK : amKn G s) {k : Nat} (h0 : 1 ≤ k) (h8 : k ≤ 8) : ArrOfT s (G.2.1 k) (amKt k) ∧ va_RA s (G.2.1 k) (amKt k) := hK.1.2 (k - 1) _ (amTys_at G h0 h8)
theorem am_in {i : Int32} {n : Nat} (hin : vp_in i n) : i.toNatClampNeg < n := Nat.not_le.mp fun q => hin (Or.inr q)
theorem am_arraylength {a kd n : Nat} (hC : amC G own cc nL p s m args c) (hd : decode cc pc = .ok (.arraylength, 1)) (hs : h.1 a = (kd, n)) (h0 : 1 ≤ kd) (h8 : kd ≤ 8) (hk : amF G p l e R s m args below meth c nL Q (pc + 1) ls (.int (nI n) :: st) h k z) : amF G p l e R s m args below meth c nL Q pc ls (.ref a :: st) h k z := by
  intro H locs lsv hR hS hL
  obtain ⟨hx, hb, hml, hown, hts, hK, hb0⟩ := hC
  have hc := hR.arr hs h0 (by omega)
  obtain ⟨ce, c1, c2, c3, c4, -⟩ := hc.1.isA (amArrT hK h0 h8).1
  exact W.alen hx hb c1 c2 (by rw [c4, arrV_size]; rfl) rfl rfl hd (hk H locs lsv hR hS hL)
theorem am_iaload {a n : Nat} {i : Int32} (hC : amC G own cc nL p s m args c) (hd : decode cc pc = .ok (.iaload, 1)) (hs : h.1 a = (1, n)) (hin : vp_in i n) (hk : amF G p l e R s m args below meth c nL Q (pc + 1) ls (.int (h.2.1 a i.toNatClampNeg) :: st) h k z) : amF G p l e R s m args below meth c nL Q pc ls (.int i :: .ref a :: st) h k z := by
  intro H locs lsv hR hS hL
  obtain ⟨hx, hb, hml, hown, hts, hK, hb0⟩ := hC
  have hc := hR.arr hs (by omega) (by omega)
  obtain ⟨ce, c1, c2, c3, c4, -⟩ := hc.1.isA (amArrT hK (k := 1) (by omega) (by omega)).1
  exact W.iald (v := .int (h.2.1 a i.toNatClampNeg)) hx hb c1 c2 c3 (by rw [c4, arrV_size]; exact hin) (by rw [c4, arrV_read _ _ (am_in hin)]; rfl) rfl rfl hd (hk H locs lsv hR hS hL)
theorem am_baload {a n : Nat} {i : Int32} (hC : amC G own cc nL p s m args c) (hd : decode cc pc = .ok (.baload, 1)) (hs : h.1 a = (2, n)) (hin : vp_in i n) (hk : amF G p l e R s m args below meth c nL Q (pc + 1) ls (.int (h.2.1 a i.toNatClampNeg) :: st) h k z) : amF G p l e R s m args below meth c nL Q pc ls (.int i :: .ref a :: st) h k z := by
  intro H locs lsv hR hS hL
  obtain ⟨hx, hb, hml, hown, hts, hK, hb0⟩ := hC
  have hc := hR.arr hs (by omega) (by omega)
  obtain ⟨ce, c1, c2, c3, c4, -⟩ := hc.1.isA (amArrT hK (k := 2) (by omega) (by omega)).1
  exact W.bald (v := .int (h.2.1 a i.toNatClampNeg)) hx hb c1 c2 c3 (by rw [c4, arrV_size]; exact hin) (by rw [c4, arrV_read _ _ (am_in hin)]; rfl) rfl rfl hd (hk H locs lsv hR hS hL)
theorem am_caload {a n : Nat} {i : Int32} (hC : amC G own cc nL p s m args c) (hd : decode cc pc = .ok (.caload, 1)) (hs : h.1 a = (3, n)) (hin : vp_in i n) (hk : amF G p l e R s m args below meth c nL Q (pc + 1) ls (.int (h.2.1 a i.toNatClampNeg) :: st) h k z) : amF G p l e R s m args below meth c nL Q pc ls (.int i :: .ref a :: st) h k z := by
  intro H locs lsv hR hS hL
  obtain ⟨hx, hb, hml, hown, hts, hK, hb0⟩ := hC
  have hc := hR.arr hs (by omega) (by omega)
  obtain ⟨ce, c1, c2, c3, c4, -⟩ := hc.1.isA (amArrT hK (k := 3) (by omega) (by omega)).1
  exact W.cald (v := .int (h.2.1 a i.toNatClampNeg)) hx hb c1 c2 c3 (by rw [c4, arrV_size]; exact hin) (by rw [c4, arrV_read _ _ (am_in hin)]; rfl) rfl rfl hd (hk H locs lsv hR hS hL)
theorem am_saload {a n : Nat} {i : Int32} (hC : amC G own cc nL p s m args c) (hd : decode cc pc = .ok (.saload, 1)) (hs : h.1 a = (4, n)) (hin : vp_in i n) (hk : amF G p l e R s m args below meth c nL Q (pc + 1) ls (.int (h.2.1 a i.toNatClampNeg) :: st) h k z) : amF G p l e R s m args below meth c nL Q pc ls (.int i :: .ref a :: st) h k z := by
  intro H locs lsv hR hS hL
  obtain ⟨hx, hb, hml, hown, hts, hK, hb0⟩ := hC
  have hc := hR.arr hs (by omega) (by omega)
  obtain ⟨ce, c1, c2, c3, c4, -⟩ := hc.1.isA (amArrT hK (k := 4) (by omega) (by omega)).1
  exact W.sald (v := .int (h.2.1 a i.toNatClampNeg)) hx hb c1 c2 c3 (by rw [c4, arrV_size]; exact hin) (by rw [c4, arrV_read _ _ (am_in hin)]; rfl) rfl rfl hd (hk H locs lsv hR hS hL)
theorem am_laload {a n : Nat} {i : Int32} (hC : amC G own cc nL p s m args c) (hd : decode cc pc = .ok (.laload, 1)) (hs : h.1 a = (5, n)) (hin : vp_in i n) (hk : amF G p l e R s m args below meth c nL Q (pc + 1) ls (.long (h.2.2.1 a i.toNatClampNeg) :: st) h k z) : amF G p l e R s m args below meth c nL Q pc ls (.int i :: .ref a :: st) h k z := by
  intro H locs lsv hR hS hL
  obtain ⟨hx, hb, hml, hown, hts, hK, hb0⟩ := hC
  have hc := hR.arr hs (by omega) (by omega)
  obtain ⟨ce, c1, c2, c3, c4, -⟩ := hc.1.isA (amArrT hK (k := 5) (by omega) (by omega)).1
  exact W.lald (v := .long (h.2.2.1 a i.toNatClampNeg)) hx hb c1 c2 c3 (by rw [c4, arrV_size]; exact hin) (by rw [c4, arrV_read _ _ (am_in hin)]; rfl) rfl rfl hd (hk H locs lsv hR hS hL)
theorem amKt_ref {kd : Nat} (h6 : 6 ≤ kd) (h8 : kd ≤ 8) : (amKt kd).isReference = true ∧ ∀ j, amRd (amEt kd j) = amRd (.object "") := by
  match kd, h6, h8 with
  | 6, _, _ => exact ⟨rfl, fun _ => rfl⟩
  | 7, _, _ => exact ⟨rfl, fun _ => rfl⟩
  | 8, _, _ => exact ⟨rfl, fun _ => rfl⟩
  | k + 9, _, h => omega
theorem am_aaload {a kd n : Nat} {i : Int32} (hC : amC G own cc nL p s m args c) (hd : decode cc pc = .ok (.aaload, 1)) (hs : h.1 a = (kd, n)) (h6 : 6 ≤ kd) (h8 : kd ≤ 8) (hin : vp_in i n) (hk : amF G p l e R s m args below meth c nL Q (pc + 1) ls (va_rf (h.2.2.2.1 a i.toNatClampNeg) :: st) h k z) : amF G p l e R s m args below meth c nL Q pc ls (.int i :: .ref a :: st) h k z := by
  intro H locs lsv hR hS hL
  obtain ⟨hx, hb, hml, hown, hts, hK, hb0⟩ := hC
  have hc := hR.arr hs (by omega) (by omega)
  obtain ⟨e1, e2⟩ := amKt_ref h6 h8
  obtain ⟨ce, c1, c2, c3, c4, -⟩ := hc.1.isA (amArrT hK (k := kd) (by omega) (by omega)).1
  exact W.aald (v := amV G (va_rf (h.2.2.2.1 a i.toNatClampNeg))) (ty := amKt kd) hx hb c1 c2 e1 c3 (by rw [c4, arrV_size]; exact hin) (by rw [c4, arrV_read _ _ (am_in hin)]; simp only [e2]; rfl) rfl rfl hd (hk H locs lsv hR hS hL)
end AMR
